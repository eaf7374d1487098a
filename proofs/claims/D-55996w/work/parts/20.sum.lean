/-! SUMS AND SEARCHES over the habits; what the lambdas say -/
def lm_Call (l : Launch) (D : va_G) (s0 : State) (idx : Nat) (rm : Room) (H : Heap) (t : Nat) (As : List Value) (z : Int) (Pz : Heap → Prop) : Prop :=
  ∀ (ret : Option FieldType) (nL : Nat) (p : Program) (e : Env) (R : Room) (s : State) (m : MethodId) (args : Array Value) (below : List Frame) (meth : Method) (c : Code) (locs : List Loc) (cells slots : Nat) (Q : State → Prop) (cc : ByteArray) (pc : Nat) (ls : Array Slot) (rest : List Value) (A : Nat → Prop) (H0 : Heap) (cnt : Nat),
    hr_C l D s0 H0 A p s m args meth c cc nL "HabitRegistry$Data" ret → ls.size = nL → (rest.map fun v => v.category).sum ≤ 8 → rm.frames ≤ R.frames ∧ rm.locals ≤ R.locals → cells + rm.cells ≤ R.cells ∧ slots + rm.slots ≤ R.slots → va_S A H0 H locs → (∀ q, hr_N H q → A q) → decode cc pc = .ok (.invokeinterface idx cnt, 5) →
    (∀ (H1 : Heap) (locs1 : List Loc), Pz H1 → hr_X H H1 → va_S A H0 H1 locs1 → W p l e R s m args below meth c H1 locs1 (cells + rm.cells) (slots + rm.slots) Q (F0 m (pc + 5) ls (.int (hr_I z) :: rest))) →
    W p l e R s m args below meth c H locs cells slots Q (F0 m pc ls (As.reverse ++ .ref t :: rest))
theorem lm_Call.mono {l : Launch} {D : va_G} {s0 : State} {idx : Nat} {rm rm2 : Room} {H : Heap} {t : Nat} {As : List Value} {z : Int} {Pz : Heap → Prop} (h : lm_Call l D s0 idx rm H t As z Pz) (h1 : rm.frames ≤ rm2.frames) (h2 : rm.locals ≤ rm2.locals) (h3 : rm.cells = rm2.cells) (h4 : rm.slots = rm2.slots) : lm_Call l D s0 idx rm2 H t As z Pz := by
  intro ret nL p e R s m args below meth c locs cells slots Q cc pc ls rest A H0 cnt C a1 a2 a3 a4 a5 a6 a7 kk
  exact h ret nL p e R s m args below meth c locs cells slots Q cc pc ls rest A H0 cnt C a1 a2 ⟨Nat.le_trans h1 a3.1, Nat.le_trans h2 a3.2⟩ (by rw [h3, h4]; exact a4) a5 a6 a7 (by rw [h3, h4]; exact kk)
theorem hr_ofN {l : Launch} {D : va_G} {s0 : State} {y : MethodName} {cc : ByteArray} {nL : Nat} {ret : Option FieldType} {rm : Room} {As : List Value} {H : Heap} {A : Nat → Prop} {P : Option Value → Heap → Prop} {PX : String → Addr → Heap → Prop} (Z : hr_Z l D s0) (hy : plainName y.cls = true) (hn : (lg_sl As).length ≤ nL) (hB : ∀ q, A q → s0.heap.size ≤ q ∨ H.size ≤ q)
    (body : ∀ (p : Program) (e : Env) (s : State) (m : MethodId) (args : Array Value) (below : List Frame) (meth : Method) (c : Code) (Q : State → Prop) (ls : Array Slot), hr_C l D s0 H A p s m args meth c cc nL y.cls ret → Q = vx_MQ below (hr_Q H A P) (hr_QX H A PX) args s rm.cells rm.slots A → meth.name = y.name → (∀ x ∈ c.exceptionTable.toList, False) → va_S A H H [] → s.methodNamed? y = some m → lv_has ls nL (lv_args 0 As) → W p l e rm s m args below meth c H [] 0 0 Q (F0 m 0 ls [])) :
    hr_M l s0 y (ws_ y cc nL ret) rm As H A P PX := by
  refine vx_ofW (cc := cc) (maxL := nL) (ret := ret) hy rfl ?_
  intro p e s m args below meth c s₁ B hml hnx hv
  obtain ⟨rfl, hE, hH⟩ := hv
  have hts := atoms_spec (ws := ws_ y cc nL ret) B.pre
  have hl := lv_entry As (n := nL) hn
  rw [lg_entry_eq, hH]
  exact body p e s m _ below meth c _ _ ⟨B.exec, B.bytes, hml, findClass_of_methodNamed B.named, fun w h => hts w (List.mem_cons_of_mem _ h), B.returns, B.notSynchronized, va_K.moved hE.1.alike Z.2.1, hE, Z, hH, fun q hq => (hB q hq).elim id (fun h => Nat.le_trans (by have := hE.2.1; rw [hH] at this; exact this) h)⟩ rfl (name_of_methodNamed B.named B.method).1 hnx ⟨Nat.le_refl _, fun _ _ _ => rfl, fun _ h => nomatch h⟩ B.named hl
abbrev rmL : Room := { frames := 14, cells := 0, slots := 0, locals := 400 }
/-- a search among the first n numbers -/
def dt_ff (φ : Nat → Bool) (n : Nat) : Option Nat := (List.range n).find? φ
theorem dt_ff_hit {φ : Nat → Bool} {n k : Nat} (h0 : ∀ j, j < k → φ j = false) (hk : k < n) (h : φ k = true) : dt_ff φ n = some k := by
  unfold dt_ff
  rw [List.find?_eq_some_iff_getElem]
  refine ⟨h, k, by simpa using hk, by simp, fun j hj => ?_⟩
  simp [h0 j hj]
theorem dt_ff_none {φ : Nat → Bool} {n : Nat} (h0 : ∀ j, j < n → φ j = false) : dt_ff φ n = none := by
  unfold dt_ff
  rw [List.find?_eq_none]
  intro x hx
  simp [h0 x (List.mem_range.mp hx)]
theorem dt_ff_lt {φ : Nat → Bool} {n k : Nat} (h : dt_ff φ n = some k) : k < n ∧ φ k = true := by
  unfold dt_ff at h
  exact ⟨List.mem_range.mp (List.mem_of_find?_eq_some h), List.find?_some h⟩
theorem dt_sum_s (f : Nat → Nat) (k : Nat) {x : Int} (hx : x = (f k : Int)) : (dt_sum f k : Int) + x = ((dt_sum f (k + 1) : Nat) : Int) := by
  rw [hx]; simp [dt_sum]
/-- a Data in the heap -/
def hr_Dt (D : va_G) (H : Heap) (a : Nat) (L : ly_T) (d : dt_T) : Prop := hr_O D H a 1 (fs_D d L) ∧ hr_pp D H L d ∧ hr_hh D H L d ∧ hr_La D H (ly_lm L).1 0 [] ∧ hr_La D H (ly_lm L).2.1 1 [] ∧ hr_La D H (ly_lm L).2.2.1 2 [] ∧ hr_La D H (ly_lm L).2.2.2 3 [.ref a]
theorem hr_Dt.x {D : va_G} {H H1 : Heap} {a : Nat} {L : ly_T} {d : dt_T} (h : hr_Dt D H a L d) (hx : hr_X H H1) : hr_Dt D H1 a L d := ⟨h.1.x hx, h.2.1.x hx, h.2.2.1.x hx, h.2.2.2.1.x hx, h.2.2.2.2.1.x hx, h.2.2.2.2.2.1.x hx, h.2.2.2.2.2.2.x hx⟩
set_option maxRecDepth 100000
theorem lq_0 {l : Launch} {D : va_G} {s0 : State} {H : Heap} {rm : Room} {A1 : Nat → Prop} {Pz : Heap → Prop} {z : Int} {t a0 : Nat} (hLa : hr_La D H t 0 []) (hM : hr_M l s0 yX2_lambda_new_0 (ws_ yX2_lambda_new_0 cX2_lambda_new_0 1 (Option.some Jvm.ClassFile.FieldType.boolean)) rm [.ref a0] H A1 (fun v H1 => v = some (.int (hr_I z)) ∧ Pz H1) hr_no) (hA1 : ∀ q, A1 q → hr_N H q) (nz : ∃ b9 : Bool, z = hr_t b9) : lm_Call l D s0 140 { frames := rm.frames + 2, cells := rm.cells, slots := rm.slots, locals := 41 + rm.locals } H t [.ref a0] z Pz := by
  intro ret nL p e R s m args below meth c locs cells slots Q cc pc ls rest A H0 cnt C h1 h2 h3 h4 h5 h6 h7 kk
  exact lc_0 C hLa hM hA1 (fun v H1 h => ⟨_, h.1, by obtain ⟨b9, e9⟩ := nz; rw [e9]; exact hr_nz b9⟩) h1 h2 h3 h4 h5 h6 h7 (fun z9 H1 locs1 hp hX hS => by obtain ⟨e9, hp⟩ := hp; cases e9; exact kk H1 locs1 hp hX hS)
theorem lq_1 {l : Launch} {D : va_G} {s0 : State} {H : Heap} {rm : Room} {A1 : Nat → Prop} {Pz : Heap → Prop} {z : Int} {t a0 : Nat} (hLa : hr_La D H t 1 []) (hM : hr_M l s0 yX2_lambda_new_1 (ws_ yX2_lambda_new_1 cX2_lambda_new_1 1 (Option.some Jvm.ClassFile.FieldType.int)) rm [.ref a0] H A1 (fun v H1 => v = some (.int (hr_I z)) ∧ Pz H1) hr_no) (hA1 : ∀ q, A1 q → hr_N H q)  : lm_Call l D s0 145 { frames := rm.frames + 2, cells := rm.cells, slots := rm.slots, locals := 41 + rm.locals } H t [.ref a0] z Pz := by
  intro ret nL p e R s m args below meth c locs cells slots Q cc pc ls rest A H0 cnt C h1 h2 h3 h4 h5 h6 h7 kk
  exact lc_1 C hLa hM hA1 (fun v H1 h => ⟨_, h.1, rfl⟩) h1 h2 h3 h4 h5 h6 h7 (fun z9 H1 locs1 hp hX hS => by obtain ⟨e9, hp⟩ := hp; cases e9; exact kk H1 locs1 hp hX hS)
theorem lq_2 {l : Launch} {D : va_G} {s0 : State} {H : Heap} {rm : Room} {A1 : Nat → Prop} {Pz : Heap → Prop} {z : Int} {t a0 : Nat} (hLa : hr_La D H t 2 []) (hM : hr_M l s0 yX2_lambda_new_2 (ws_ yX2_lambda_new_2 cX2_lambda_new_2 1 (Option.some Jvm.ClassFile.FieldType.int)) rm [.ref a0] H A1 (fun v H1 => v = some (.int (hr_I z)) ∧ Pz H1) hr_no) (hA1 : ∀ q, A1 q → hr_N H q)  : lm_Call l D s0 145 { frames := rm.frames + 2, cells := rm.cells, slots := rm.slots, locals := 41 + rm.locals } H t [.ref a0] z Pz := by
  intro ret nL p e R s m args below meth c locs cells slots Q cc pc ls rest A H0 cnt C h1 h2 h3 h4 h5 h6 h7 kk
  exact lc_2 C hLa hM hA1 (fun v H1 h => ⟨_, h.1, rfl⟩) h1 h2 h3 h4 h5 h6 h7 (fun z9 H1 locs1 hp hX hS => by obtain ⟨e9, hp⟩ := hp; cases e9; exact kk H1 locs1 hp hX hS)
theorem lq_3 {l : Launch} {D : va_G} {s0 : State} {H : Heap} {rm : Room} {A1 : Nat → Prop} {Pz : Heap → Prop} {z : Int} {t a0 a1 : Nat} {b : Nat} {fs : List Value} (hLa : hr_La D H t 3 [.ref b]) (hB : hr_O D H b 1 fs) (hM : hr_M l s0 yX2_lambda_new_3 (ws_ yX2_lambda_new_3 cX2_lambda_new_3 5 (Option.some Jvm.ClassFile.FieldType.boolean)) rm [.ref b, .ref a0, .ref a1] H A1 (fun v H1 => v = some (.int (hr_I z)) ∧ Pz H1) hr_no) (hA1 : ∀ q, A1 q → hr_N H q) (nz : ∃ b9 : Bool, z = hr_t b9) : lm_Call l D s0 199 { frames := rm.frames + 2, cells := rm.cells, slots := rm.slots, locals := 46 + rm.locals } H t [.ref a0, .ref a1] z Pz := by
  intro ret nL p e R s m args below meth c locs cells slots Q cc pc ls rest A H0 cnt C h1 h2 h3 h4 h5 h6 h7 kk
  exact lc_3 C hLa hB hM hA1 (fun v H1 h => ⟨_, h.1, by obtain ⟨b9, e9⟩ := nz; rw [e9]; exact hr_nz b9⟩) h1 h2 h3 h4 h5 h6 h7 (fun z9 H1 locs1 hp hX hS => by obtain ⟨e9, hp⟩ := hp; cases e9; exact kk H1 locs1 hp hX hS)
theorem lq_4 {l : Launch} {D : va_G} {s0 : State} {H : Heap} {rm : Room} {A1 : Nat → Prop} {Pz : Heap → Prop} {z : Int} {t a0 : Nat} {v0 : Value} (hLa : hr_La D H t 4 [v0]) (hM : hr_M l s0 yX2_lambda_strengthOf_4 (ws_ yX2_lambda_strengthOf_4 cX2_lambda_strengthOf_4 2 (Option.some Jvm.ClassFile.FieldType.boolean)) rm [v0, .ref a0] H A1 (fun v H1 => v = some (.int (hr_I z)) ∧ Pz H1) hr_no) (hA1 : ∀ q, A1 q → hr_N H q) (nz : ∃ b9 : Bool, z = hr_t b9) : lm_Call l D s0 140 { frames := rm.frames + 2, cells := rm.cells, slots := rm.slots, locals := 42 + rm.locals } H t [.ref a0] z Pz := by
  intro ret nL p e R s m args below meth c locs cells slots Q cc pc ls rest A H0 cnt C h1 h2 h3 h4 h5 h6 h7 kk
  exact lc_4 C hLa hM hA1 (fun v H1 h => ⟨_, h.1, by obtain ⟨b9, e9⟩ := nz; rw [e9]; exact hr_nz b9⟩) h1 h2 h3 h4 h5 h6 h7 (fun z9 H1 locs1 hp hX hS => by obtain ⟨e9, hp⟩ := hp; cases e9; exact kk H1 locs1 hp hX hS)
theorem lq_5 {l : Launch} {D : va_G} {s0 : State} {H : Heap} {rm : Room} {A1 : Nat → Prop} {Pz : Heap → Prop} {z : Int} {t a0 : Nat} (hLa : hr_La D H t 5 []) (hM : hr_M l s0 yX2_lambda_isConsistent_10 (ws_ yX2_lambda_isConsistent_10 cX2_lambda_isConsistent_10 1 (Option.some Jvm.ClassFile.FieldType.boolean)) rm [.ref a0] H A1 (fun v H1 => v = some (.int (hr_I z)) ∧ Pz H1) hr_no) (hA1 : ∀ q, A1 q → hr_N H q) (nz : ∃ b9 : Bool, z = hr_t b9) : lm_Call l D s0 140 { frames := rm.frames + 2, cells := rm.cells, slots := rm.slots, locals := 41 + rm.locals } H t [.ref a0] z Pz := by
  intro ret nL p e R s m args below meth c locs cells slots Q cc pc ls rest A H0 cnt C h1 h2 h3 h4 h5 h6 h7 kk
  exact lc_5 C hLa hM hA1 (fun v H1 h => ⟨_, h.1, by obtain ⟨b9, e9⟩ := nz; rw [e9]; exact hr_nz b9⟩) h1 h2 h3 h4 h5 h6 h7 (fun z9 H1 locs1 hp hX hS => by obtain ⟨e9, hp⟩ := hp; cases e9; exact kk H1 locs1 hp hX hS)
theorem lq_6 {l : Launch} {D : va_G} {s0 : State} {H : Heap} {rm : Room} {A1 : Nat → Prop} {Pz : Heap → Prop} {z : Int} {t a0 a1 : Nat} {v1 : Value} {b : Nat} {fs : List Value} (hLa : hr_La D H t 6 [.ref b, v1]) (hB : hr_O D H b 1 fs) (hM : hr_M l s0 yX2_lambda_heirByComparison_6 (ws_ yX2_lambda_heirByComparison_6 cX2_lambda_heirByComparison_6 5 (Option.some Jvm.ClassFile.FieldType.boolean)) rm [.ref b, v1, .ref a0, .ref a1] H A1 (fun v H1 => v = some (.int (hr_I z)) ∧ Pz H1) hr_no) (hA1 : ∀ q, A1 q → hr_N H q) (nz : ∃ b9 : Bool, z = hr_t b9) : lm_Call l D s0 199 { frames := rm.frames + 2, cells := rm.cells, slots := rm.slots, locals := 46 + rm.locals } H t [.ref a0, .ref a1] z Pz := by
  intro ret nL p e R s m args below meth c locs cells slots Q cc pc ls rest A H0 cnt C h1 h2 h3 h4 h5 h6 h7 kk
  exact lc_6 C hLa hB hM hA1 (fun v H1 h => ⟨_, h.1, by obtain ⟨b9, e9⟩ := nz; rw [e9]; exact hr_nz b9⟩) h1 h2 h3 h4 h5 h6 h7 (fun z9 H1 locs1 hp hX hS => by obtain ⟨e9, hp⟩ := hp; cases e9; exact kk H1 locs1 hp hX hS)
theorem lq_7 {l : Launch} {D : va_G} {s0 : State} {H : Heap} {rm : Room} {A1 : Nat → Prop} {Pz : Heap → Prop} {z : Int} {t a0 : Nat} {v0 : Value} {v1 : Value} (hLa : hr_La D H t 7 [v0, v1]) (hM : hr_M l s0 yX2_lambda_hasOneOfEachKind_9 (ws_ yX2_lambda_hasOneOfEachKind_9 cX2_lambda_hasOneOfEachKind_9 3 (Option.some Jvm.ClassFile.FieldType.boolean)) rm [v0, v1, .ref a0] H A1 (fun v H1 => v = some (.int (hr_I z)) ∧ Pz H1) hr_no) (hA1 : ∀ q, A1 q → hr_N H q) (nz : ∃ b9 : Bool, z = hr_t b9) : lm_Call l D s0 140 { frames := rm.frames + 2, cells := rm.cells, slots := rm.slots, locals := 43 + rm.locals } H t [.ref a0] z Pz := by
  intro ret nL p e R s m args below meth c locs cells slots Q cc pc ls rest A H0 cnt C h1 h2 h3 h4 h5 h6 h7 kk
  exact lc_7 C hLa hM hA1 (fun v H1 h => ⟨_, h.1, by obtain ⟨b9, e9⟩ := nz; rw [e9]; exact hr_nz b9⟩) h1 h2 h3 h4 h5 h6 h7 (fun z9 H1 locs1 hp hX hS => by obtain ⟨e9, hp⟩ := hp; cases e9; exact kk H1 locs1 hp hX hS)
theorem lq_8 {l : Launch} {D : va_G} {s0 : State} {H : Heap} {rm : Room} {A1 : Nat → Prop} {Pz : Heap → Prop} {z : Int} {t a0 : Nat} {v0 : Value} {v1 : Value} (hLa : hr_La D H t 8 [v0, v1]) (hM : hr_M l s0 yX2_lambda_habitOf_5 (ws_ yX2_lambda_habitOf_5 cX2_lambda_habitOf_5 3 (Option.some Jvm.ClassFile.FieldType.boolean)) rm [v0, v1, .ref a0] H A1 (fun v H1 => v = some (.int (hr_I z)) ∧ Pz H1) hr_no) (hA1 : ∀ q, A1 q → hr_N H q) (nz : ∃ b9 : Bool, z = hr_t b9) : lm_Call l D s0 140 { frames := rm.frames + 2, cells := rm.cells, slots := rm.slots, locals := 43 + rm.locals } H t [.ref a0] z Pz := by
  intro ret nL p e R s m args below meth c locs cells slots Q cc pc ls rest A H0 cnt C h1 h2 h3 h4 h5 h6 h7 kk
  exact lc_8 C hLa hM hA1 (fun v H1 h => ⟨_, h.1, by obtain ⟨b9, e9⟩ := nz; rw [e9]; exact hr_nz b9⟩) h1 h2 h3 h4 h5 h6 h7 (fun z9 H1 locs1 hp hX hS => by obtain ⟨e9, hp⟩ := hp; cases e9; exact kk H1 locs1 hp hX hS)
theorem lq_9 {l : Launch} {D : va_G} {s0 : State} {H : Heap} {rm : Room} {A1 : Nat → Prop} {Pz : Heap → Prop} {z : Int} {t a0 : Nat} {v1 : Value} {b : Nat} {fs : List Value} (hLa : hr_La D H t 9 [.ref b, v1]) (hB : hr_O D H b 1 fs) (hM : hr_M l s0 yX2_lambda_habitAt_8 (ws_ yX2_lambda_habitAt_8 cX2_lambda_habitAt_8 3 (Option.some Jvm.ClassFile.FieldType.boolean)) rm [.ref b, v1, .ref a0] H A1 (fun v H1 => v = some (.int (hr_I z)) ∧ Pz H1) hr_no) (hA1 : ∀ q, A1 q → hr_N H q) (nz : ∃ b9 : Bool, z = hr_t b9) : lm_Call l D s0 140 { frames := rm.frames + 2, cells := rm.cells, slots := rm.slots, locals := 43 + rm.locals } H t [.ref a0] z Pz := by
  intro ret nL p e R s m args below meth c locs cells slots Q cc pc ls rest A H0 cnt C h1 h2 h3 h4 h5 h6 h7 kk
  exact lc_9 C hLa hB hM hA1 (fun v H1 h => ⟨_, h.1, by obtain ⟨b9, e9⟩ := nz; rw [e9]; exact hr_nz b9⟩) h1 h2 h3 h4 h5 h6 h7 (fun z9 H1 locs1 hp hX hS => by obtain ⟨e9, hp⟩ := hp; cases e9; exact kk H1 locs1 hp hX hS)
theorem lq_10 {l : Launch} {D : va_G} {s0 : State} {H : Heap} {rm : Room} {A1 : Nat → Prop} {Pz : Heap → Prop} {z : Int} {t a0 : Nat} {v0 : Value} (hLa : hr_La D H t 10 [v0]) (hM : hr_M l s0 yX2_lambda_habitAt_7 (ws_ yX2_lambda_habitAt_7 cX2_lambda_habitAt_7 2 (Option.some Jvm.ClassFile.FieldType.boolean)) rm [v0, .ref a0] H A1 (fun v H1 => v = some (.int (hr_I z)) ∧ Pz H1) hr_no) (hA1 : ∀ q, A1 q → hr_N H q) (nz : ∃ b9 : Bool, z = hr_t b9) : lm_Call l D s0 140 { frames := rm.frames + 2, cells := rm.cells, slots := rm.slots, locals := 42 + rm.locals } H t [.ref a0] z Pz := by
  intro ret nL p e R s m args below meth c locs cells slots Q cc pc ls rest A H0 cnt C h1 h2 h3 h4 h5 h6 h7 kk
  exact lc_10 C hLa hM hA1 (fun v H1 h => ⟨_, h.1, by obtain ⟨b9, e9⟩ := nz; rw [e9]; exact hr_nz b9⟩) h1 h2 h3 h4 h5 h6 h7 (fun z9 H1 locs1 hp hX hS => by obtain ⟨e9, hp⟩ := hp; cases e9; exact kk H1 locs1 hp hX hS)
abbrev rmX2_lambda_new_0 : Room := { frames := 1, cells := 0, slots := 0, locals := 32 }
set_option maxHeartbeats 4000000 in
set_option maxRecDepth 100000 in
theorem mtl_0 {l : Launch} {D : va_G} {s0 : State} (Z : hr_Z l D s0) {H : Heap} {L : ly_T} {d : dt_T} (hP : hr_pp D H L d) (hH : hr_hh D H L d) (hV : dt_V d) {h : Nat} (hh : h < dt_k d) : hr_M l s0 yX2_lambda_new_0 (ws_ yX2_lambda_new_0 cX2_lambda_new_0 1 (Option.some Jvm.ClassFile.FieldType.boolean)) rmX2_lambda_new_0 [.ref (ly_ha L h)] H (hr_N H) (fun v H1 => v = some (.int (hr_I (hr_t (dt_ho d h).isSome))) ∧ H = H1) hr_no := by
  refine hr_of Z (by decide) (Nat.le_of_ble_eq_true rfl) (fun _ h => Or.inr h) ?_
  intro p e s m args below meth c Q ls C hQ hin hnx hS hl
  have hAN : ∀ q, H.size ≤ q → (hr_N H) q := (fun _ h => h)
  have hl : lv_has ls 1 [(0, .ref (ly_ha L h))] := hl
  refine lv_aload_n C.x C.b dX2_lambda_new_0_0 rfl (lv_at hl 0 rfl) ?_
  refine hr_callV (lw_V q161 q162 q163 q98 q164) (by decide +kernel) (n := 0) C (mtX5_isExtinct Z hH hh) ((hH.2 h hh).recv C rfl) ⟨Nat.le_of_ble_eq_true rfl, Nat.le_of_ble_eq_true rfl⟩ rfl hl.1 (Nat.le_of_ble_eq_true rfl) ⟨by first | exact Nat.le_of_ble_eq_true rfl | (simp only [rmX2_lambda_new_0]; omega), by first | exact Nat.le_of_ble_eq_true rfl | (simp only [rmX2_lambda_new_0]; omega)⟩ hS (hr_AN hAN hS) dX2_lambda_new_0_1 (rest := []) rfl
    (fun _ _ _ _ _ h => h.elim) (fun v6 H1 locs2 hp5 hF3 hS4 => ?_)
  obtain ⟨hv7, hH8⟩ := hp5; subst hv7; subst hH8
  refine W.eq (g2 := F0 m 4 ls [.int (hr_I (hr_t (dt_ho d h).isNone))]) rfl ?_
  refine hr_ifb_ne C (tgt := 11) dX2_lambda_new_0_4 (by decide) (fun hc => ?_) (fun hc => ?_)
  · refine lv_iconst (v := hr_I 0) C.x C.b dX2_lambda_new_0_11 (by decide) ?_
    exact hr_zret C hQ rfl (⟨by cases h9 : dt_ho d h <;> simp_all [hr_t], rfl⟩) hS4 (by first | exact Nat.le_of_ble_eq_true rfl | (simp only [rmX2_lambda_new_0]; omega)) (by first | exact Nat.le_of_ble_eq_true rfl | (simp only [rmX2_lambda_new_0]; omega)) dX2_lambda_new_0_12
  · refine lv_iconst (v := hr_I 1) C.x C.b dX2_lambda_new_0_7 (by decide) ?_
    refine lv_goto (tgt := 12) C.x C.b dX2_lambda_new_0_8 (by decide) ?_
    exact hr_zret C hQ rfl (⟨by cases h9 : dt_ho d h <;> simp_all [hr_t], rfl⟩) hS4 (by first | exact Nat.le_of_ble_eq_true rfl | (simp only [rmX2_lambda_new_0]; omega)) (by first | exact Nat.le_of_ble_eq_true rfl | (simp only [rmX2_lambda_new_0]; omega)) dX2_lambda_new_0_12

abbrev rmX2_lambda_new_1 : Room := { frames := 0, cells := 0, slots := 0, locals := 12 }
set_option maxHeartbeats 4000000 in
set_option maxRecDepth 100000 in
theorem mtl_1 {l : Launch} {D : va_G} {s0 : State} (Z : hr_Z l D s0) {H : Heap} {L : ly_T} {d : dt_T} (hP : hr_pp D H L d) (hH : hr_hh D H L d) (hV : dt_V d) {h : Nat} (hh : h < dt_k d) : hr_M l s0 yX2_lambda_new_1 (ws_ yX2_lambda_new_1 cX2_lambda_new_1 1 (Option.some Jvm.ClassFile.FieldType.int)) rmX2_lambda_new_1 [.ref (ly_ha L h)] H (hr_N H) (fun v H1 => v = some (.int (hr_I (dt_st d h : Int))) ∧ H = H1) hr_no := by
  refine hr_of Z (by decide) (Nat.le_of_ble_eq_true rfl) (fun _ h => Or.inr h) ?_
  intro p e s m args below meth c Q ls C hQ hin hnx hS hl
  have hAN : ∀ q, H.size ≤ q → (hr_N H) q := (fun _ h => h)
  have hl : lv_has ls 1 [(0, .ref (ly_ha L h))] := hl
  refine lv_aload_n C.x C.b dX2_lambda_new_1_0 rfl (lv_at hl 0 rfl) ?_
  refine hr_getN in_X5 (ci := 4) 2 q733 rfl rfl (by decide) C (hH.2 h hh) rfl dX2_lambda_new_1_1 ?_
  exact hr_iret C hQ (⟨rfl, rfl⟩) hS (by first | exact Nat.le_of_ble_eq_true rfl | (simp only [rmX2_lambda_new_1]; omega)) (by first | exact Nat.le_of_ble_eq_true rfl | (simp only [rmX2_lambda_new_1]; omega)) dX2_lambda_new_1_4

abbrev rmX2_lambda_new_2 : Room := { frames := 0, cells := 0, slots := 0, locals := 12 }
set_option maxHeartbeats 4000000 in
set_option maxRecDepth 100000 in
theorem mtl_2 {l : Launch} {D : va_G} {s0 : State} (Z : hr_Z l D s0) {H : Heap} {L : ly_T} {d : dt_T} (hP : hr_pp D H L d) (hH : hr_hh D H L d) (hV : dt_V d) {h : Nat} (hh : h < dt_k d) : hr_M l s0 yX2_lambda_new_2 (ws_ yX2_lambda_new_2 cX2_lambda_new_2 1 (Option.some Jvm.ClassFile.FieldType.int)) rmX2_lambda_new_2 [.ref (ly_ha L h)] H (hr_N H) (fun v H1 => v = some (.int (hr_I 1)) ∧ H = H1) hr_no := by
  refine hr_of Z (by decide) (Nat.le_of_ble_eq_true rfl) (fun _ h => Or.inr h) ?_
  intro p e s m args below meth c Q ls C hQ hin hnx hS hl
  have hAN : ∀ q, H.size ≤ q → (hr_N H) q := (fun _ h => h)
  have hl : lv_has ls 1 [(0, .ref (ly_ha L h))] := hl
  refine lv_iconst (v := hr_I 1) C.x C.b dX2_lambda_new_2_0 (by decide) ?_
  exact hr_iret C hQ (⟨rfl, rfl⟩) hS (by first | exact Nat.le_of_ble_eq_true rfl | (simp only [rmX2_lambda_new_2]; omega)) (by first | exact Nat.le_of_ble_eq_true rfl | (simp only [rmX2_lambda_new_2]; omega)) dX2_lambda_new_2_1

abbrev rmX2_lambda_strengthOf_4 : Room := { frames := 0, cells := 0, slots := 0, locals := 12 }
set_option maxHeartbeats 4000000 in
set_option maxRecDepth 100000 in
theorem mtl_4 {l : Launch} {D : va_G} {s0 : State} (Z : hr_Z l D s0) {H : Heap} {L : ly_T} {d : dt_T} (hP : hr_pp D H L d) (hH : hr_hh D H L d) (hV : dt_V d) {h : Nat} (hh : h < dt_k d) {i : Nat} (hi : i < dt_n d) : hr_M l s0 yX2_lambda_strengthOf_4 (ws_ yX2_lambda_strengthOf_4 cX2_lambda_strengthOf_4 2 (Option.some Jvm.ClassFile.FieldType.boolean)) rmX2_lambda_strengthOf_4 [.ref (ly_pa L i), .ref (ly_ha L h)] H (hr_N H) (fun v H1 => v = some (.int (hr_I (hr_t (decide (dt_ho d h = some i))))) ∧ H = H1) hr_no := by
  refine hr_of Z (by decide) (Nat.le_of_ble_eq_true rfl) (fun _ h => Or.inr h) ?_
  intro p e s m args below meth c Q ls C hQ hin hnx hS hl
  have hAN : ∀ q, H.size ≤ q → (hr_N H) q := (fun _ h => h)
  have hl : lv_has ls 2 [(0, .ref (ly_pa L i)), (1, .ref (ly_ha L h))] := hl
  refine lv_aload_n C.x C.b dX2_lambda_strengthOf_4_0 rfl (lv_at hl 1 rfl) ?_
  refine hr_getN in_X5 (ci := 4) 5 q742 rfl rfl (by decide) C (hH.2 h hh) rfl dX2_lambda_strengthOf_4_1 ?_
  refine lv_aload_n C.x C.b dX2_lambda_strengthOf_4_4 rfl (lv_at hl 0 rfl) ?_
  refine hr_acmp_ne (x := (dt_ho d h).map (ly_pa L)) (y := some (ly_pa L i)) C (tgt := 12) dX2_lambda_strengthOf_4_5 (by decide) (fun hc => ?_) (fun hc => ?_)
  · have hne : dt_ho d h ≠ some i := fun e => hc (by rw [e]; rfl)
    refine lv_iconst (v := hr_I 0) C.x C.b dX2_lambda_strengthOf_4_12 (by decide) ?_
    exact hr_zret C hQ rfl (⟨by rw [show decide (dt_ho d h = some i) = false from decide_eq_false hne]; rfl, rfl⟩) hS (by first | exact Nat.le_of_ble_eq_true rfl | (simp only [rmX2_lambda_strengthOf_4]; omega)) (by first | exact Nat.le_of_ble_eq_true rfl | (simp only [rmX2_lambda_strengthOf_4]; omega)) dX2_lambda_strengthOf_4_13
  · have heq : dt_ho d h = some i := by
      obtain ⟨y, hy, hyx⟩ := Option.map_eq_some_iff.mp hc
      rw [hy, hP.inj hV.1.1 (hV.2.2.1 h hh y hy).1 hi hyx]
    refine lv_iconst (v := hr_I 1) C.x C.b dX2_lambda_strengthOf_4_8 (by decide) ?_
    refine lv_goto (tgt := 13) C.x C.b dX2_lambda_strengthOf_4_9 (by decide) ?_
    exact hr_zret C hQ rfl (⟨by rw [show decide (dt_ho d h = some i) = true from decide_eq_true heq]; rfl, rfl⟩) hS (by first | exact Nat.le_of_ble_eq_true rfl | (simp only [rmX2_lambda_strengthOf_4]; omega)) (by first | exact Nat.le_of_ble_eq_true rfl | (simp only [rmX2_lambda_strengthOf_4]; omega)) dX2_lambda_strengthOf_4_13

abbrev rmX2_lambda_hasOneOfEachKind_9 : Room := { frames := 0, cells := 0, slots := 0, locals := 12 }
set_option maxHeartbeats 4000000 in
set_option maxRecDepth 100000 in
theorem mtl_7 {l : Launch} {D : va_G} {s0 : State} (Z : hr_Z l D s0) {H : Heap} {L : ly_T} {d : dt_T} (hP : hr_pp D H L d) (hH : hr_hh D H L d) (hV : dt_V d) {h : Nat} (hh : h < dt_k d) {i : Nat} (hi : i < dt_n d) {kc : Int} (hkc : hr_R kc) : hr_M l s0 yX2_lambda_hasOneOfEachKind_9 (ws_ yX2_lambda_hasOneOfEachKind_9 cX2_lambda_hasOneOfEachKind_9 3 (Option.some Jvm.ClassFile.FieldType.boolean)) rmX2_lambda_hasOneOfEachKind_9 [.ref (ly_pa L i), .int (hr_I kc), .ref (ly_ha L h)] H (hr_N H) (fun v H1 => v = some (.int (hr_I (hr_t (decide (dt_ho d h = some i) && decide (dt_ch (dt_ki d h) = kc))))) ∧ H = H1) hr_no := by
  refine hr_of Z (by decide) (Nat.le_of_ble_eq_true rfl) (fun _ h => Or.inr h) ?_
  intro p e s m args below meth c Q ls C hQ hin hnx hS hl
  have hAN : ∀ q, H.size ≤ q → (hr_N H) q := (fun _ h => h)
  have hl : lv_has ls 3 [(0, .ref (ly_pa L i)), (1, .int (hr_I kc)), (2, .ref (ly_ha L h))] := hl
  have hch : hr_R (dt_ch (dt_ki d h)) := by unfold dt_ch hr_R; split <;> (try split) <;> omega
  refine lv_aload_n C.x C.b dX2_lambda_hasOneOfEachKind_9_0 rfl (lv_at hl 2 rfl) ?_
  refine hr_getN in_X5 (ci := 4) 5 q742 rfl rfl (by decide) C (hH.2 h hh) rfl dX2_lambda_hasOneOfEachKind_9_1 ?_
  refine lv_aload_n C.x C.b dX2_lambda_hasOneOfEachKind_9_4 rfl (lv_at hl 0 rfl) ?_
  refine hr_acmp_ne (x := (dt_ho d h).map (ly_pa L)) (y := some (ly_pa L i)) C (tgt := 20) dX2_lambda_hasOneOfEachKind_9_5 (by decide) (fun hc => ?_) (fun hc => ?_)
  · have hne : dt_ho d h ≠ some i := fun e => hc (by rw [e]; rfl)
    refine lv_iconst (v := hr_I 0) C.x C.b dX2_lambda_hasOneOfEachKind_9_20 (by decide) ?_
    exact hr_zret C hQ rfl (⟨by rw [show (decide (dt_ho d h = some i) && decide (dt_ch (dt_ki d h) = kc)) = false by simp [hne]]; rfl, rfl⟩) hS (by first | exact Nat.le_of_ble_eq_true rfl | (simp only [rmX2_lambda_hasOneOfEachKind_9]; omega)) (by first | exact Nat.le_of_ble_eq_true rfl | (simp only [rmX2_lambda_hasOneOfEachKind_9]; omega)) dX2_lambda_hasOneOfEachKind_9_21
  · have heq : dt_ho d h = some i := by
      obtain ⟨y, hy, hyx⟩ := Option.map_eq_some_iff.mp hc
      rw [hy, hP.inj hV.1.1 (hV.2.2.1 h hh y hy).1 hi hyx]
    refine lv_aload_n C.x C.b dX2_lambda_hasOneOfEachKind_9_8 rfl (lv_at hl 2 rfl) ?_
    refine hr_getN in_X5 (ci := 4) 1 q730 rfl rfl (by decide) C (hH.2 h hh) rfl dX2_lambda_hasOneOfEachKind_9_9 ?_
    refine lv_iload_n C.x C.b dX2_lambda_hasOneOfEachKind_9_12 rfl (lv_at hl 1 rfl) ?_
    refine hr_icmp_ne C (tgt := 20) dX2_lambda_hasOneOfEachKind_9_13 (by decide) hch hkc (fun hc8 => ?_) (fun hc8 => ?_)
    · refine lv_iconst (v := hr_I 0) C.x C.b dX2_lambda_hasOneOfEachKind_9_20 (by decide) ?_
      exact hr_zret C hQ rfl (⟨by rw [show (decide (dt_ho d h = some i) && decide (dt_ch (dt_ki d h) = kc)) = false by simp [hc8]]; rfl, rfl⟩) hS (by first | exact Nat.le_of_ble_eq_true rfl | (simp only [rmX2_lambda_hasOneOfEachKind_9]; omega)) (by first | exact Nat.le_of_ble_eq_true rfl | (simp only [rmX2_lambda_hasOneOfEachKind_9]; omega)) dX2_lambda_hasOneOfEachKind_9_21
    · refine lv_iconst (v := hr_I 1) C.x C.b dX2_lambda_hasOneOfEachKind_9_16 (by decide) ?_
      refine lv_goto (tgt := 21) C.x C.b dX2_lambda_hasOneOfEachKind_9_17 (by decide) ?_
      exact hr_zret C hQ rfl (⟨by rw [show (decide (dt_ho d h = some i) && decide (dt_ch (dt_ki d h) = kc)) = true by simp [heq, hc8]]; rfl, rfl⟩) hS (by first | exact Nat.le_of_ble_eq_true rfl | (simp only [rmX2_lambda_hasOneOfEachKind_9]; omega)) (by first | exact Nat.le_of_ble_eq_true rfl | (simp only [rmX2_lambda_hasOneOfEachKind_9]; omega)) dX2_lambda_hasOneOfEachKind_9_21

abbrev rmX2_lambda_habitOf_5 : Room := { frames := 0, cells := 0, slots := 0, locals := 12 }
set_option maxHeartbeats 4000000 in
set_option maxRecDepth 100000 in
theorem mtl_8 {l : Launch} {D : va_G} {s0 : State} (Z : hr_Z l D s0) {H : Heap} {L : ly_T} {d : dt_T} (hP : hr_pp D H L d) (hH : hr_hh D H L d) (hV : dt_V d) {h : Nat} (hh : h < dt_k d) {i : Nat} (hi : i < dt_n d) {kc : Int} (hkc : hr_R kc) : hr_M l s0 yX2_lambda_habitOf_5 (ws_ yX2_lambda_habitOf_5 cX2_lambda_habitOf_5 3 (Option.some Jvm.ClassFile.FieldType.boolean)) rmX2_lambda_habitOf_5 [.ref (ly_pa L i), .int (hr_I kc), .ref (ly_ha L h)] H (hr_N H) (fun v H1 => v = some (.int (hr_I (hr_t (decide (dt_ho d h = some i) && decide (dt_ch (dt_ki d h) = kc))))) ∧ H = H1) hr_no := by
  refine hr_of Z (by decide) (Nat.le_of_ble_eq_true rfl) (fun _ h => Or.inr h) ?_
  intro p e s m args below meth c Q ls C hQ hin hnx hS hl
  have hAN : ∀ q, H.size ≤ q → (hr_N H) q := (fun _ h => h)
  have hl : lv_has ls 3 [(0, .ref (ly_pa L i)), (1, .int (hr_I kc)), (2, .ref (ly_ha L h))] := hl
  have hch : hr_R (dt_ch (dt_ki d h)) := by unfold dt_ch hr_R; split <;> (try split) <;> omega
  refine lv_aload_n C.x C.b dX2_lambda_habitOf_5_0 rfl (lv_at hl 2 rfl) ?_
  refine hr_getN in_X5 (ci := 4) 5 q742 rfl rfl (by decide) C (hH.2 h hh) rfl dX2_lambda_habitOf_5_1 ?_
  refine lv_aload_n C.x C.b dX2_lambda_habitOf_5_4 rfl (lv_at hl 0 rfl) ?_
  refine hr_acmp_ne (x := (dt_ho d h).map (ly_pa L)) (y := some (ly_pa L i)) C (tgt := 20) dX2_lambda_habitOf_5_5 (by decide) (fun hc => ?_) (fun hc => ?_)
  · have hne : dt_ho d h ≠ some i := fun e => hc (by rw [e]; rfl)
    refine lv_iconst (v := hr_I 0) C.x C.b dX2_lambda_habitOf_5_20 (by decide) ?_
    exact hr_zret C hQ rfl (⟨by rw [show (decide (dt_ho d h = some i) && decide (dt_ch (dt_ki d h) = kc)) = false by simp [hne]]; rfl, rfl⟩) hS (by first | exact Nat.le_of_ble_eq_true rfl | (simp only [rmX2_lambda_habitOf_5]; omega)) (by first | exact Nat.le_of_ble_eq_true rfl | (simp only [rmX2_lambda_habitOf_5]; omega)) dX2_lambda_habitOf_5_21
  · have heq : dt_ho d h = some i := by
      obtain ⟨y, hy, hyx⟩ := Option.map_eq_some_iff.mp hc
      rw [hy, hP.inj hV.1.1 (hV.2.2.1 h hh y hy).1 hi hyx]
    refine lv_aload_n C.x C.b dX2_lambda_habitOf_5_8 rfl (lv_at hl 2 rfl) ?_
    refine hr_getN in_X5 (ci := 4) 1 q730 rfl rfl (by decide) C (hH.2 h hh) rfl dX2_lambda_habitOf_5_9 ?_
    refine lv_iload_n C.x C.b dX2_lambda_habitOf_5_12 rfl (lv_at hl 1 rfl) ?_
    refine hr_icmp_ne C (tgt := 20) dX2_lambda_habitOf_5_13 (by decide) hch hkc (fun hc8 => ?_) (fun hc8 => ?_)
    · refine lv_iconst (v := hr_I 0) C.x C.b dX2_lambda_habitOf_5_20 (by decide) ?_
      exact hr_zret C hQ rfl (⟨by rw [show (decide (dt_ho d h = some i) && decide (dt_ch (dt_ki d h) = kc)) = false by simp [hc8]]; rfl, rfl⟩) hS (by first | exact Nat.le_of_ble_eq_true rfl | (simp only [rmX2_lambda_habitOf_5]; omega)) (by first | exact Nat.le_of_ble_eq_true rfl | (simp only [rmX2_lambda_habitOf_5]; omega)) dX2_lambda_habitOf_5_21
    · refine lv_iconst (v := hr_I 1) C.x C.b dX2_lambda_habitOf_5_16 (by decide) ?_
      refine lv_goto (tgt := 21) C.x C.b dX2_lambda_habitOf_5_17 (by decide) ?_
      exact hr_zret C hQ rfl (⟨by rw [show (decide (dt_ho d h = some i) && decide (dt_ch (dt_ki d h) = kc)) = true by simp [heq, hc8]]; rfl, rfl⟩) hS (by first | exact Nat.le_of_ble_eq_true rfl | (simp only [rmX2_lambda_habitOf_5]; omega)) (by first | exact Nat.le_of_ble_eq_true rfl | (simp only [rmX2_lambda_habitOf_5]; omega)) dX2_lambda_habitOf_5_21

abbrev rmX2_sum : Room := { frames := 14, cells := 1, slots := 4, locals := 400 }
set_option maxHeartbeats 4000000 in
set_option maxRecDepth 100000 in
theorem mtX2_sum {l : Launch} {D : va_G} {s0 : State} (Z : hr_Z l D s0) {H : Heap} {a t u : Nat} {L : ly_T} {d : dt_T} {φ : Nat → Bool} {ψ : Nat → Nat} (hD : hr_O D H a 1 (fs_D d L)) (hH : hr_hh D H L d) (hk : dt_k d ≤ 20) (hT : ∀ h, h < dt_k d → ∀ H1, hr_X H H1 → lm_Call l D s0 140 rmL H1 t [.ref (ly_ha L h)] (hr_t (φ h)) (fun H2 => H1 = H2)) (hU : ∀ h, h < dt_k d → φ h = true → ∀ H1, hr_X H H1 → lm_Call l D s0 145 rmL H1 u [.ref (ly_ha L h)] (ψ h : Int) (fun H2 => H1 = H2)) : hr_M l s0 yX2_sum (ws_ yX2_sum cX2_sum 6 (Option.some Jvm.ClassFile.FieldType.int)) rmX2_sum [.ref a, .ref t, .ref u] H (hr_N H) (fun v H1 => v = some (.int (hr_I (dt_sum (fun h => if φ h = true then ψ h else 0) (dt_k d) : Int))) ∧ hr_X H H1) hr_no := by
  refine hr_of Z (by decide) (Nat.le_of_ble_eq_true rfl) (fun _ h => Or.inr h) ?_
  intro p e s m args below meth c Q ls C hQ hin hnx hS hl
  have hAN : ∀ q, H.size ≤ q → (hr_N H) q := (fun _ h => h)
  have hl : lv_has ls 6 [(0, .ref a), (1, .ref t), (2, .ref u)] := hl
  refine lv_iconst (v := hr_I 0) C.x C.b dX2_sum_0 (by decide) ?_
  refine lv_istore_n (lv' := [(3, .int (hr_I 0)), (0, .ref a), (1, .ref t), (2, .ref u)]) C.x C.b dX2_sum_1 rfl hl (by decide) rfl (fun ls hl => ?_)
  refine lv_aload_n C.x C.b dX2_sum_2 rfl (lv_at hl 1 rfl) ?_
  refine hr_get in_X2 (ci := 1) 1 q315 rfl rfl (by decide) C hD rfl dX2_sum_3 ?_
  refine hr_callV (lw_V q182 q183 q184 q80 q185) (by decide +kernel) (n := 0) C (mtJ2_iterator Z hH.1) (hH.1.1.recv C rfl) ⟨Nat.le_of_ble_eq_true rfl, Nat.le_of_ble_eq_true rfl⟩ rfl hl.1 (Nat.le_of_ble_eq_true rfl) ⟨by first | exact Nat.le_of_ble_eq_true rfl | (simp only [rmX2_sum]; omega), by first | exact Nat.le_of_ble_eq_true rfl | (simp only [rmX2_sum]; omega)⟩ hS (hr_AN hAN hS) dX2_sum_6 (rest := []) rfl
    (fun _ _ _ _ _ h => h.elim) (fun v6 H1 locs2 hp5 hF3 hS4 => ?_)
  obtain ⟨rfl, hI0⟩ := hp5
  refine W.eq (g2 := F0 m 9 ls [.ref H.size]) rfl ?_
  refine lv_astore (lv' := [(4, .ref H.size), (3, .int (hr_I 0)), (0, .ref a), (1, .ref t), (2, .ref u)]) C.x C.b dX2_sum_9 hl (by decide) rfl (fun ls hl => ?_)
  have lp : ∀ (r k : Nat) (ls : Array Slot) (H5 : Heap) (locs5 : List Loc) (x9 : Value), k + r = dt_k d → hr_O D H5 H.size 11 [.int (hr_I (k : Int)), x9, .int (ly_h L).2.2.2, .ref (ly_h L).1] → va_S (hr_N H) H H5 locs5 → lv_has ls 6 [(4, .ref H.size), (3, .int (hr_I (dt_sum (fun h => if φ h = true then ψ h else 0) k : Int))), (0, .ref a), (1, .ref t), (2, .ref u)] → W p l e rmX2_sum s m args below meth c H5 locs5 (0 + 1) (0 + 4) Q (F0 m 11 ls []) := by
    intro r
    induction r with
    | zero =>
      intro k ls H5 locs5 x9  hk hI5 hS5  hl
      have hk9 : k ≤ dt_k d := by omega
      refine lv_aload C.x C.b dX2_sum_11 (lv_at hl 0 rfl) ?_
      refine hr_callF (CC := "java/util/ArrayList$Itr") (x := ⟨"java/util/Iterator", "hasNext", "()Z"⟩) (y := yJ3_hasNext) (lw_app (lw_in _ [206, 210, 212, 81] (by decide +kernel) (by decide +kernel)) (lw_meth q214)) (by decide +kernel) (n := 0) C (C.K.1 11 _ rfl).2 (hr_C.fw5 C (hr_inT _ [208, 207, 213, 211, 209] (by decide +kernel)) (by decide)) (mtJ3_hasNext Z (hH.1.x (hr_SX hS5)) hI5 hk9) (hI5.recv C rfl) ⟨Nat.le_of_ble_eq_true rfl, Nat.le_of_ble_eq_true rfl⟩ rfl hl.1 (Nat.le_of_ble_eq_true rfl) ⟨by first | exact Nat.le_of_ble_eq_true rfl | (simp only [rmX2_sum]; omega), by first | exact Nat.le_of_ble_eq_true rfl | (simp only [rmX2_sum]; omega)⟩ hS5 (hr_AN hAN hS5) dX2_sum_13 (rest := []) rfl
        (fun _ _ _ _ _ h => h.elim) (fun v12 H7 locs8 hp11 hF9 hS10 => ?_)
      obtain ⟨hv13, hH14⟩ := hp11; subst hv13; subst hH14
      refine W.eq (g2 := F0 m 18 ls [.int (hr_I (hr_t (decide (k < dt_k d))))]) rfl ?_
      have hkn : k = dt_k d := by omega
      refine hr_ifb_eq C (tgt := 62) dX2_sum_18 (by decide) (fun hc => ?_) (fun hc => ?_)
      · refine lv_iload_n C.x C.b dX2_sum_62 rfl (lv_at hl 1 rfl) ?_
        exact hr_iret C hQ (⟨by rw [hkn], hr_SX hS10⟩) hS10 (by first | exact Nat.le_of_ble_eq_true rfl | (simp only [rmX2_sum]; omega)) (by first | exact Nat.le_of_ble_eq_true rfl | (simp only [rmX2_sum]; omega)) dX2_sum_63
      · exact absurd hc (by simp [hkn])
    | succ r ih =>
      intro k ls H5 locs5 x9  hk hI5 hS5  hl
      have hk9 : k ≤ dt_k d := by omega
      refine lv_aload C.x C.b dX2_sum_11 (lv_at hl 0 rfl) ?_
      refine hr_callF (CC := "java/util/ArrayList$Itr") (x := ⟨"java/util/Iterator", "hasNext", "()Z"⟩) (y := yJ3_hasNext) (lw_app (lw_in _ [206, 210, 212, 81] (by decide +kernel) (by decide +kernel)) (lw_meth q214)) (by decide +kernel) (n := 0) C (C.K.1 11 _ rfl).2 (hr_C.fw5 C (hr_inT _ [208, 207, 213, 211, 209] (by decide +kernel)) (by decide)) (mtJ3_hasNext Z (hH.1.x (hr_SX hS5)) hI5 hk9) (hI5.recv C rfl) ⟨Nat.le_of_ble_eq_true rfl, Nat.le_of_ble_eq_true rfl⟩ rfl hl.1 (Nat.le_of_ble_eq_true rfl) ⟨by first | exact Nat.le_of_ble_eq_true rfl | (simp only [rmX2_sum]; omega), by first | exact Nat.le_of_ble_eq_true rfl | (simp only [rmX2_sum]; omega)⟩ hS5 (hr_AN hAN hS5) dX2_sum_13 (rest := []) rfl
        (fun _ _ _ _ _ h => h.elim) (fun v20 H15 locs16 hp19 hF17 hS18 => ?_)
      obtain ⟨hv21, hH22⟩ := hp19; subst hv21; subst hH22
      refine W.eq (g2 := F0 m 18 ls [.int (hr_I (hr_t (decide (k < dt_k d))))]) rfl ?_
      have hkn : k < dt_k d := by omega
      refine hr_ifb_eq C (tgt := 62) dX2_sum_18 (by decide) (fun hc => ?_) (fun hc => ?_)
      · exact absurd hc (by simp [hkn])
      · refine lv_aload C.x C.b dX2_sum_21 (lv_at hl 0 rfl) ?_
        refine hr_callF (CC := "java/util/ArrayList$Itr") (x := ⟨"java/util/Iterator", "next", "()Ljava/lang/Object;"⟩) (y := yJ3_next) (lw_app (lw_in _ [216, 219, 221, 81] (by decide +kernel) (by decide +kernel)) (lw_meth q223)) (by decide +kernel) (n := 0) C (C.K.1 11 _ rfl).2 (hr_C.fw5 C (hr_inT _ [218, 217, 222, 220, 209] (by decide +kernel)) (by decide)) (mtJ3_next Z (hH.1.x (hr_SX hS18)) hI5 hkn ((C.up hS).1)) (hI5.recv C rfl) ⟨Nat.le_of_ble_eq_true rfl, Nat.le_of_ble_eq_true rfl⟩ rfl hl.1 (Nat.le_of_ble_eq_true rfl) ⟨by first | exact Nat.le_of_ble_eq_true rfl | (simp only [rmX2_sum]; omega), by first | exact Nat.le_of_ble_eq_true rfl | (simp only [rmX2_sum]; omega)⟩ hS18 (fun q h => h.elim (fun e => by rw [e]; exact (Nat.le_refl _)) (fun h => hAN _ (Nat.le_trans hS18.1 h))) dX2_sum_23 (rest := []) rfl
          (fun _ _ _ _ _ h => h.elim) (fun v28 H23 locs24 hp27 hF25 hS26 => ?_)
        obtain ⟨rfl, ⟨x2, hI22⟩⟩ := hp27
        refine W.eq (g2 := F0 m 28 ls [.ref (ly_ha L k)]) rfl ?_
        refine va_castS C.x C.b C.ow (C.w _ q300) (C.K.1 4 _ rfl).2 (((hH.2 k hkn).x (hr_SX hS26)).recv C rfl) dX2_sum_28 ?_
        refine lv_astore (lv' := [(5, .ref (ly_ha L k)), (4, .ref H.size), (3, .int (hr_I (dt_sum (fun h => if φ h = true then ψ h else 0) k : Int))), (0, .ref a), (1, .ref t), (2, .ref u)]) C.x C.b dX2_sum_31 hl (by decide) rfl (fun ls hl => ?_)
        refine lv_iload_n C.x C.b dX2_sum_33 rfl (lv_at hl 2 rfl) ?_
        refine lv_aload_n C.x C.b dX2_sum_34 rfl (lv_at hl 4 rfl) ?_
        refine lv_aload C.x C.b dX2_sum_35 (lv_at hl 0 rfl) ?_
        refine (hT k hkn _ (hr_SX hS26)) _ _ p e _ s m args below meth c _ _ _ _ _ _ ls [.int (hr_I (dt_sum (fun h => if φ h = true then ψ h else 0) k : Int))] _ _ _ C hl.1 (Nat.le_of_ble_eq_true rfl) ⟨Nat.le_of_ble_eq_true rfl, Nat.le_of_ble_eq_true rfl⟩ ⟨by first | exact Nat.le_of_ble_eq_true rfl | (simp only [rmX2_sum]; omega), by first | exact Nat.le_of_ble_eq_true rfl | (simp only [rmX2_sum]; omega)⟩ hS26 (hr_AN hAN hS26) dX2_sum_37 (fun H29 locs30 hH31 hX32 hS33 => ?_)
        subst hH31
        show W p l e rmX2_sum s m args below meth c H23 locs30 (0 + 1 + 0 + 0 + 0) (0 + 4 + 0 + 0 + 0) Q (F0 m 42 ls [.int (hr_I (hr_t (φ k))), .int (hr_I (dt_sum (fun h => if φ h = true then ψ h else 0) k : Int))])
        refine hr_ifb_eq C (tgt := 56) dX2_sum_42 (by decide) (fun hc => ?_) (fun hc => ?_)
        · refine lv_iconst (v := hr_I 0) C.x C.b dX2_sum_56 (by decide) ?_
          refine t_iadd C.x C.b dX2_sum_57 (v := hr_I ((dt_sum (fun h => if φ h = true then ψ h else 0) k : Int) + 0)) (hr_add _ _) ?_
          refine lv_istore_n (lv' := [(3, .int (hr_I ((dt_sum (fun h => if φ h = true then ψ h else 0) k : Int) + 0))), (5, .ref (ly_ha L k)), (4, .ref H.size), (0, .ref a), (1, .ref t), (2, .ref u)]) C.x C.b dX2_sum_58 rfl hl (by decide) rfl (fun ls hl => ?_)
          have e934 : (dt_sum (fun h => if φ h = true then ψ h else 0) k : Int) + 0 = ((dt_sum (fun h => if φ h = true then ψ h else 0) (k + 1) : Nat) : Int) := dt_sum_s (fun h => if φ h = true then ψ h else 0) k (by simp [hc])
          rw [e934] at hl
          refine lv_goto (tgt := 11) C.x C.b dX2_sum_59 (by decide) ?_
          exact ih (k + 1) ls _ _ _  (by omega) hI22 hS33  (lv_sub hl [2, 0, 3, 4, 5] rfl)
        · refine lv_aload_n C.x C.b dX2_sum_45 rfl (lv_at hl 5 rfl) ?_
          refine lv_aload C.x C.b dX2_sum_46 (lv_at hl 0 rfl) ?_
          refine (hU k hkn hc _ (hr_SX hS33)) _ _ p e _ s m args below meth c _ _ _ _ _ _ ls [.int (hr_I (dt_sum (fun h => if φ h = true then ψ h else 0) k : Int))] _ _ _ C hl.1 (Nat.le_of_ble_eq_true rfl) ⟨Nat.le_of_ble_eq_true rfl, Nat.le_of_ble_eq_true rfl⟩ ⟨by first | exact Nat.le_of_ble_eq_true rfl | (simp only [rmX2_sum]; omega), by first | exact Nat.le_of_ble_eq_true rfl | (simp only [rmX2_sum]; omega)⟩ hS33 (hr_AN hAN hS33) dX2_sum_48 (fun H35 locs36 hH37 hX38 hS39 => ?_)
          subst hH37
          show W p l e rmX2_sum s m args below meth c H23 locs36 (0 + 1 + 0 + 0 + 0 + 0) (0 + 4 + 0 + 0 + 0 + 0) Q (F0 m 53 ls [.int (hr_I (ψ k : Int)), .int (hr_I (dt_sum (fun h => if φ h = true then ψ h else 0) k : Int))])
          refine lv_goto (tgt := 57) C.x C.b dX2_sum_53 (by decide) ?_
          refine t_iadd C.x C.b dX2_sum_57 (v := hr_I ((dt_sum (fun h => if φ h = true then ψ h else 0) k : Int) + (ψ k : Int))) (hr_add _ _) ?_
          refine lv_istore_n (lv' := [(3, .int (hr_I ((dt_sum (fun h => if φ h = true then ψ h else 0) k : Int) + (ψ k : Int)))), (5, .ref (ly_ha L k)), (4, .ref H.size), (0, .ref a), (1, .ref t), (2, .ref u)]) C.x C.b dX2_sum_58 rfl hl (by decide) rfl (fun ls hl => ?_)
          have e940 : (dt_sum (fun h => if φ h = true then ψ h else 0) k : Int) + (ψ k : Int) = ((dt_sum (fun h => if φ h = true then ψ h else 0) (k + 1) : Nat) : Int) := dt_sum_s (fun h => if φ h = true then ψ h else 0) k (by simp [hc])
          rw [e940] at hl
          refine lv_goto (tgt := 11) C.x C.b dX2_sum_59 (by decide) ?_
          exact ih (k + 1) ls _ _ _  (by omega) hI22 hS39  (lv_sub hl [2, 0, 3, 4, 5] rfl)
  exact lp (dt_k d) 0 ls _ _ _  (Nat.zero_add _) hI0 hS4  (lv_sub hl [0, 1, 2, 3, 4] rfl)

abbrev rmX2_find : Room := { frames := 14, cells := 1, slots := 4, locals := 400 }
set_option maxHeartbeats 4000000 in
set_option maxRecDepth 100000 in
theorem mtX2_find {l : Launch} {D : va_G} {s0 : State} (Z : hr_Z l D s0) {H : Heap} {a t : Nat} {L : ly_T} {d : dt_T} {φ : Nat → Bool} (hD : hr_O D H a 1 (fs_D d L)) (hH : hr_hh D H L d) (hk : dt_k d ≤ 20) (hT : ∀ h, h < dt_k d → ∀ H1, hr_X H H1 → lm_Call l D s0 140 rmL H1 t [.ref (ly_ha L h)] (hr_t (φ h)) (fun H2 => H1 = H2)) : hr_M l s0 yX2_find (ws_ yX2_find cX2_find 4 (Option.some (Jvm.ClassFile.FieldType.object "HabitRegistry$Habit"))) rmX2_find [.ref a, .ref t] H (hr_N H) (fun v H1 => v = some (va_rf ((dt_ff φ (dt_k d)).map (ly_ha L))) ∧ hr_X H H1) hr_no := by
  refine hr_of Z (by decide) (Nat.le_of_ble_eq_true rfl) (fun _ h => Or.inr h) ?_
  intro p e s m args below meth c Q ls C hQ hin hnx hS hl
  have hAN : ∀ q, H.size ≤ q → (hr_N H) q := (fun _ h => h)
  have hl : lv_has ls 4 [(0, .ref a), (1, .ref t)] := hl
  refine lv_aload_n C.x C.b dX2_find_0 rfl (lv_at hl 0 rfl) ?_
  refine hr_get in_X2 (ci := 1) 1 q315 rfl rfl (by decide) C hD rfl dX2_find_1 ?_
  refine hr_callV (lw_V q182 q183 q184 q80 q185) (by decide +kernel) (n := 0) C (mtJ2_iterator Z hH.1) (hH.1.1.recv C rfl) ⟨Nat.le_of_ble_eq_true rfl, Nat.le_of_ble_eq_true rfl⟩ rfl hl.1 (Nat.le_of_ble_eq_true rfl) ⟨by first | exact Nat.le_of_ble_eq_true rfl | (simp only [rmX2_find]; omega), by first | exact Nat.le_of_ble_eq_true rfl | (simp only [rmX2_find]; omega)⟩ hS (hr_AN hAN hS) dX2_find_4 (rest := []) rfl
    (fun _ _ _ _ _ h => h.elim) (fun v6 H1 locs2 hp5 hF3 hS4 => ?_)
  obtain ⟨rfl, hI0⟩ := hp5
  refine W.eq (g2 := F0 m 7 ls [.ref H.size]) rfl ?_
  refine lv_astore_n (lv' := [(2, .ref H.size), (0, .ref a), (1, .ref t)]) C.x C.b dX2_find_7 rfl hl (by decide) rfl (fun ls hl => ?_)
  have lp : ∀ (r k : Nat) (ls : Array Slot) (H5 : Heap) (locs5 : List Loc) (x9 : Value), k + r = dt_k d → hr_O D H5 H.size 11 [.int (hr_I (k : Int)), x9, .int (ly_h L).2.2.2, .ref (ly_h L).1] → va_S (hr_N H) H H5 locs5 → (∀ j, j < k → φ j = false) → lv_has ls 4 [(2, .ref H.size), (0, .ref a), (1, .ref t)] → W p l e rmX2_find s m args below meth c H5 locs5 (0 + 1) (0 + 4) Q (F0 m 8 ls []) := by
    intro r
    induction r with
    | zero =>
      intro k ls H5 locs5 x9  hk hI5 hS5 hno hl
      have hk9 : k ≤ dt_k d := by omega
      refine lv_aload_n C.x C.b dX2_find_8 rfl (lv_at hl 0 rfl) ?_
      refine hr_callF (CC := "java/util/ArrayList$Itr") (x := ⟨"java/util/Iterator", "hasNext", "()Z"⟩) (y := yJ3_hasNext) (lw_app (lw_in _ [206, 210, 212, 81] (by decide +kernel) (by decide +kernel)) (lw_meth q214)) (by decide +kernel) (n := 0) C (C.K.1 11 _ rfl).2 (hr_C.fw5 C (hr_inT _ [208, 207, 213, 211, 209] (by decide +kernel)) (by decide)) (mtJ3_hasNext Z (hH.1.x (hr_SX hS5)) hI5 hk9) (hI5.recv C rfl) ⟨Nat.le_of_ble_eq_true rfl, Nat.le_of_ble_eq_true rfl⟩ rfl hl.1 (Nat.le_of_ble_eq_true rfl) ⟨by first | exact Nat.le_of_ble_eq_true rfl | (simp only [rmX2_find]; omega), by first | exact Nat.le_of_ble_eq_true rfl | (simp only [rmX2_find]; omega)⟩ hS5 (hr_AN hAN hS5) dX2_find_9 (rest := []) rfl
        (fun _ _ _ _ _ h => h.elim) (fun v12 H7 locs8 hp11 hF9 hS10 => ?_)
      obtain ⟨hv13, hH14⟩ := hp11; subst hv13; subst hH14
      refine W.eq (g2 := F0 m 14 ls [.int (hr_I (hr_t (decide (k < dt_k d))))]) rfl ?_
      have hkn : k = dt_k d := by omega
      refine hr_ifb_eq C (tgt := 42) dX2_find_14 (by decide) (fun hc => ?_) (fun hc => ?_)
      · refine lv_null C.x C.b dX2_find_42 ?_
        exact hr_aret (Or.inl ⟨_, rfl⟩) (Or.inl rfl) C hQ (⟨by rw [dt_ff_none (fun j hj => hno j (by omega))]; rfl, hr_SX hS10⟩) hS10 (by first | exact Nat.le_of_ble_eq_true rfl | (simp only [rmX2_find]; omega)) (by first | exact Nat.le_of_ble_eq_true rfl | (simp only [rmX2_find]; omega)) dX2_find_43
      · exact absurd hc (by simp [hkn])
    | succ r ih =>
      intro k ls H5 locs5 x9  hk hI5 hS5 hno hl
      have hk9 : k ≤ dt_k d := by omega
      refine lv_aload_n C.x C.b dX2_find_8 rfl (lv_at hl 0 rfl) ?_
      refine hr_callF (CC := "java/util/ArrayList$Itr") (x := ⟨"java/util/Iterator", "hasNext", "()Z"⟩) (y := yJ3_hasNext) (lw_app (lw_in _ [206, 210, 212, 81] (by decide +kernel) (by decide +kernel)) (lw_meth q214)) (by decide +kernel) (n := 0) C (C.K.1 11 _ rfl).2 (hr_C.fw5 C (hr_inT _ [208, 207, 213, 211, 209] (by decide +kernel)) (by decide)) (mtJ3_hasNext Z (hH.1.x (hr_SX hS5)) hI5 hk9) (hI5.recv C rfl) ⟨Nat.le_of_ble_eq_true rfl, Nat.le_of_ble_eq_true rfl⟩ rfl hl.1 (Nat.le_of_ble_eq_true rfl) ⟨by first | exact Nat.le_of_ble_eq_true rfl | (simp only [rmX2_find]; omega), by first | exact Nat.le_of_ble_eq_true rfl | (simp only [rmX2_find]; omega)⟩ hS5 (hr_AN hAN hS5) dX2_find_9 (rest := []) rfl
        (fun _ _ _ _ _ h => h.elim) (fun v20 H15 locs16 hp19 hF17 hS18 => ?_)
      obtain ⟨hv21, hH22⟩ := hp19; subst hv21; subst hH22
      refine W.eq (g2 := F0 m 14 ls [.int (hr_I (hr_t (decide (k < dt_k d))))]) rfl ?_
      have hkn : k < dt_k d := by omega
      refine hr_ifb_eq C (tgt := 42) dX2_find_14 (by decide) (fun hc => ?_) (fun hc => ?_)
      · exact absurd hc (by simp [hkn])
      · refine lv_aload_n C.x C.b dX2_find_17 rfl (lv_at hl 0 rfl) ?_
        refine hr_callF (CC := "java/util/ArrayList$Itr") (x := ⟨"java/util/Iterator", "next", "()Ljava/lang/Object;"⟩) (y := yJ3_next) (lw_app (lw_in _ [216, 219, 221, 81] (by decide +kernel) (by decide +kernel)) (lw_meth q223)) (by decide +kernel) (n := 0) C (C.K.1 11 _ rfl).2 (hr_C.fw5 C (hr_inT _ [218, 217, 222, 220, 209] (by decide +kernel)) (by decide)) (mtJ3_next Z (hH.1.x (hr_SX hS18)) hI5 hkn ((C.up hS).1)) (hI5.recv C rfl) ⟨Nat.le_of_ble_eq_true rfl, Nat.le_of_ble_eq_true rfl⟩ rfl hl.1 (Nat.le_of_ble_eq_true rfl) ⟨by first | exact Nat.le_of_ble_eq_true rfl | (simp only [rmX2_find]; omega), by first | exact Nat.le_of_ble_eq_true rfl | (simp only [rmX2_find]; omega)⟩ hS18 (fun q h => h.elim (fun e => by rw [e]; exact (Nat.le_refl _)) (fun h => hAN _ (Nat.le_trans hS18.1 h))) dX2_find_18 (rest := []) rfl
          (fun _ _ _ _ _ h => h.elim) (fun v28 H23 locs24 hp27 hF25 hS26 => ?_)
        obtain ⟨rfl, ⟨x2, hI22⟩⟩ := hp27
        refine W.eq (g2 := F0 m 23 ls [.ref (ly_ha L k)]) rfl ?_
        refine va_castS C.x C.b C.ow (C.w _ q300) (C.K.1 4 _ rfl).2 (((hH.2 k hkn).x (hr_SX hS26)).recv C rfl) dX2_find_23 ?_
        refine lv_astore_n (lv' := [(3, .ref (ly_ha L k)), (2, .ref H.size), (0, .ref a), (1, .ref t)]) C.x C.b dX2_find_26 rfl hl (by decide) rfl (fun ls hl => ?_)
        refine lv_aload_n C.x C.b dX2_find_27 rfl (lv_at hl 3 rfl) ?_
        refine lv_aload_n C.x C.b dX2_find_28 rfl (lv_at hl 0 rfl) ?_
        refine (hT k hkn _ (hr_SX hS26)) _ _ p e _ s m args below meth c _ _ _ _ _ _ ls [] _ _ _ C hl.1 (Nat.le_of_ble_eq_true rfl) ⟨Nat.le_of_ble_eq_true rfl, Nat.le_of_ble_eq_true rfl⟩ ⟨by first | exact Nat.le_of_ble_eq_true rfl | (simp only [rmX2_find]; omega), by first | exact Nat.le_of_ble_eq_true rfl | (simp only [rmX2_find]; omega)⟩ hS26 (hr_AN hAN hS26) dX2_find_29 (fun H29 locs30 hH31 hX32 hS33 => ?_)
        subst hH31
        show W p l e rmX2_find s m args below meth c H23 locs30 (0 + 1 + 0 + 0 + 0) (0 + 4 + 0 + 0 + 0) Q (F0 m 34 ls [.int (hr_I (hr_t (φ k)))])
        refine hr_ifb_eq C (tgt := 39) dX2_find_34 (by decide) (fun hc => ?_) (fun hc => ?_)
        · refine lv_goto (tgt := 8) C.x C.b dX2_find_39 (by decide) ?_
          exact ih (k + 1) ls _ _ _  (by omega) hI22 hS33 (fun j hj => by rcases Nat.lt_succ_iff_lt_or_eq.mp hj with h9 | h9; exact hno j h9; rw [h9]; exact hc) (lv_sub hl [1, 2, 3] rfl)
        · refine lv_aload_n C.x C.b dX2_find_37 rfl (lv_at hl 0 rfl) ?_
          exact hr_aret (Or.inl ⟨_, rfl⟩) (Or.inr ⟨_, rfl⟩) C hQ (⟨by rw [dt_ff_hit hno hkn hc]; rfl, hr_SX hS33⟩) hS33 (by first | exact Nat.le_of_ble_eq_true rfl | (simp only [rmX2_find]; omega)) (by first | exact Nat.le_of_ble_eq_true rfl | (simp only [rmX2_find]; omega)) dX2_find_38
  exact lp (dt_k d) 0 ls _ _ _  (Nat.zero_add _) hI0 hS4 (fun j hj => absurd hj (Nat.not_lt_zero j)) (lv_sub hl [0, 1, 2] rfl)

theorem lm_n1 {t : FieldType} {v : Value} (h : narrow t v = v ∧ fits t v = true) : ∀ (i : Nat) (t' : FieldType) (v' : Value), [t][i]? = some t' → [v][i]? = some v' → narrow t' v' = v' ∧ fits t' v' = true := by
  intro i t' v' h1 h2
  rcases i with _ | i
  · cases h1; cases h2; exact h
  · simp at h1
theorem lm_n2 {t u : FieldType} {v w : Value} (h : narrow t v = v ∧ fits t v = true) (hb : narrow u w = w ∧ fits u w = true) : ∀ (i : Nat) (t' : FieldType) (v' : Value), [t, u][i]? = some t' → [v, w][i]? = some v' → narrow t' v' = v' ∧ fits t' v' = true := by
  intro i t' v' h1 h2
  rcases i with _ | _ | i
  · cases h1; cases h2; exact h
  · cases h1; cases h2; exact hb
  · simp at h1
def dt_so (d : dt_T) (i : Nat) : Nat := dt_sum (fun h => if decide (dt_ho d h = some i) = true then dt_st d h else 0) (dt_k d)
def dt_hof (d : dt_T) (i : Nat) (kc : Int) : Option Nat := dt_ff (fun h => decide (dt_ho d h = some i) && decide (dt_ch (dt_ki d h) = kc)) (dt_k d)
theorem dt_sum_le' {f : Nat → Nat} {b : Nat} : ∀ k, (∀ j, j < k → f j ≤ b) → dt_sum f k ≤ b * k
  | 0, _ => Nat.le_refl _
  | k + 1, h => by have := dt_sum_le' k (fun j hj => h j (by omega)); have := h k (by omega); simp only [dt_sum, Nat.mul_succ]; omega
theorem dt_sum_le {f : Nat → Nat} {b : Nat} (h : ∀ j, f j ≤ b) : ∀ k, dt_sum f k ≤ b * k
  | 0 => Nat.le_refl _
  | k + 1 => by have := dt_sum_le h k; have := h k; simp only [dt_sum, Nat.mul_succ]; omega
abbrev rmX2_strengthOf : Room := { frames := 15, cells := 2, slots := 5, locals := 3120 }
set_option maxHeartbeats 4000000 in
set_option maxRecDepth 100000 in
theorem mtX2_strengthOf {l : Launch} {D : va_G} {s0 : State} (Z : hr_Z l D s0) {H : Heap} {a : Nat} {L : ly_T} {d : dt_T} (hD : hr_Dt D H a L d) (hV : dt_V d) {i : Nat} (hi : i < dt_n d) : hr_M l s0 yX2_strengthOf (ws_ yX2_strengthOf cX2_strengthOf 2 (Option.some Jvm.ClassFile.FieldType.int)) rmX2_strengthOf [.ref a, .ref (ly_pa L i)] H (hr_N H) (fun v H1 => v = some (.int (hr_I (dt_so d i : Int))) ∧ hr_X H H1) hr_no := by
  refine hr_ofN Z (by decide) (Nat.le_of_ble_eq_true rfl) (fun _ h => Or.inr h) ?_
  intro p e s m args below meth c Q ls C hQ hin hnx hS hnm hl
  have hAN : ∀ q, H.size ≤ q → (hr_N H) q := (fun _ h => h)
  have hl : lv_has ls 2 [(0, .ref a), (1, .ref (ly_pa L i))] := hl
  refine lv_aload_n C.x C.b dX2_strengthOf_0 rfl (lv_at hl 0 rfl) ?_
  refine lv_aload_n C.x C.b dX2_strengthOf_1 rfl (lv_at hl 1 rfl) ?_
  refine lm_make lga4 lgb4 lge4 lgg4 lgh4 (j := 4) (idx := 150) (x := lgx4) rfl rfl (by decide) (tys := [.object "HabitRegistry$Person"]) lgt4 (vals := [.ref (ly_pa L i)]) (rest := [.ref a]) rfl rfl (lm_n1 ⟨rfl, rfl⟩) C hnm hl.1 (Nat.le_of_ble_eq_true rfl) ⟨by first | exact Nat.le_of_ble_eq_true rfl | (simp only [rmX2_strengthOf]; omega), by first | exact Nat.le_of_ble_eq_true rfl | (simp only [rmX2_strengthOf]; omega)⟩ hS dX2_strengthOf_2 (fun H1 hLa2 hX3 hz4 hS5 => ?_)
  have hD1 := hD.x hX3
  refine lv_aload_n C.x C.b dX2_strengthOf_7 rfl (lv_at hl 0 rfl) ?_
  refine hr_get in_X2 (ci := 1) 7 q327 rfl rfl (by decide) C (hD.1.x hX3) rfl dX2_strengthOf_8 ?_
  refine hr_callV (lw_V q178 q179 q180 q77 q181) (by decide +kernel) (n := 2) C (mtX2_sum Z (φ := fun h => decide (dt_ho d h = some i)) (ψ := dt_st d) hD1.1 hD1.2.2.1 hV.2.1 (fun h h9 H2 hX2 => ((lq_4 (hLa2.x hX2) (mtl_4 Z (hD1.2.1.x hX2) (hD1.2.2.1.x hX2) hV h9 hi) (fun _ h => h) ⟨_, rfl⟩).mono (Nat.le_of_ble_eq_true rfl) (Nat.le_of_ble_eq_true rfl) rfl rfl)) (fun h h9 _ H2 hX2 => ((lq_1 (hD1.2.2.2.2.1.x hX2) (mtl_1 Z (hD1.2.1.x hX2) (hD1.2.2.1.x hX2) hV h9) (fun _ h => h)).mono (Nat.le_of_ble_eq_true rfl) (Nat.le_of_ble_eq_true rfl) rfl rfl))) ((hD.1.x hX3).recv C rfl) ⟨Nat.le_of_ble_eq_true rfl, Nat.le_of_ble_eq_true rfl⟩ rfl hl.1 (Nat.le_of_ble_eq_true rfl) ⟨by first | exact Nat.le_of_ble_eq_true rfl | (simp only [rmX2_strengthOf]; omega), by first | exact Nat.le_of_ble_eq_true rfl | (simp only [rmX2_strengthOf]; omega)⟩ hS5 (hr_AN hAN hS5) dX2_strengthOf_11 (rest := []) rfl
    (fun _ _ _ _ _ h => h.elim) (fun v11 H6 locs7 hp10 hF8 hS9 => ?_)
  obtain ⟨rfl, hX9⟩ := hp10
  refine W.eq (g2 := F0 m 14 ls [.int (hr_I (dt_so d i : Int))]) rfl ?_
  exact hr_iret C hQ (⟨rfl, hr_SX hS9⟩) hS9 (by first | exact Nat.le_of_ble_eq_true rfl | (simp only [rmX2_strengthOf]; omega)) (by first | exact Nat.le_of_ble_eq_true rfl | (simp only [rmX2_strengthOf]; omega)) dX2_strengthOf_14

abbrev rmX2_habitOf : Room := { frames := 15, cells := 2, slots := 6, locals := 3120 }
set_option maxHeartbeats 4000000 in
set_option maxRecDepth 100000 in
theorem mtX2_habitOf {l : Launch} {D : va_G} {s0 : State} (Z : hr_Z l D s0) {H : Heap} {a : Nat} {L : ly_T} {d : dt_T} (hD : hr_Dt D H a L d) (hV : dt_V d) {i : Nat} (hi : i < dt_n d) {kc : Int} (hkc : 0 ≤ kc ∧ kc < 65536) : hr_M l s0 yX2_habitOf (ws_ yX2_habitOf cX2_habitOf 3 (Option.some (Jvm.ClassFile.FieldType.object "HabitRegistry$Habit"))) rmX2_habitOf [.ref a, .ref (ly_pa L i), .int (hr_I kc)] H (hr_N H) (fun v H1 => v = some (va_rf ((dt_hof d i kc).map (ly_ha L))) ∧ hr_X H H1) hr_no := by
  refine hr_ofN Z (by decide) (Nat.le_of_ble_eq_true rfl) (fun _ h => Or.inr h) ?_
  intro p e s m args below meth c Q ls C hQ hin hnx hS hnm hl
  have hAN : ∀ q, H.size ≤ q → (hr_N H) q := (fun _ h => h)
  have hl : lv_has ls 3 [(0, .ref a), (1, .ref (ly_pa L i)), (2, .int (hr_I kc))] := hl
  have hkc1 : hr_R kc := ⟨by omega, by omega⟩
  refine lv_aload_n C.x C.b dX2_habitOf_0 rfl (lv_at hl 0 rfl) ?_
  refine lv_aload_n C.x C.b dX2_habitOf_1 rfl (lv_at hl 1 rfl) ?_
  refine lv_iload_n C.x C.b dX2_habitOf_2 rfl (lv_at hl 2 rfl) ?_
  refine lm_make lga8 lgb8 lge8 lgg8 lgh8 (j := 8) (idx := 157) (x := lgx8) rfl rfl (by decide) (tys := [.object "HabitRegistry$Person", .char]) lgt8 (vals := [.ref (ly_pa L i), .int (hr_I kc)]) (rest := [.ref a]) rfl rfl (lm_n2 ⟨rfl, rfl⟩ (hr_nc hkc)) C hnm hl.1 (Nat.le_of_ble_eq_true rfl) ⟨by first | exact Nat.le_of_ble_eq_true rfl | (simp only [rmX2_habitOf]; omega), by first | exact Nat.le_of_ble_eq_true rfl | (simp only [rmX2_habitOf]; omega)⟩ hS dX2_habitOf_3 (fun H1 hLa2 hX3 hz4 hS5 => ?_)
  have hD1 := hD.x hX3
  refine hr_callV (lw_V q475 q476 q477 q77 q478) (by decide +kernel) (n := 1) C (mtX2_find Z (φ := fun h => decide (dt_ho d h = some i) && decide (dt_ch (dt_ki d h) = kc)) hD1.1 hD1.2.2.1 hV.2.1 (fun h h9 H2 hX2 => ((lq_8 (hLa2.x hX2) (mtl_8 Z (hD1.2.1.x hX2) (hD1.2.2.1.x hX2) hV h9 hi hkc1) (fun _ h => h) ⟨_, rfl⟩).mono (Nat.le_of_ble_eq_true rfl) (Nat.le_of_ble_eq_true rfl) rfl rfl))) ((hD.1.x hX3).recv C rfl) ⟨Nat.le_of_ble_eq_true rfl, Nat.le_of_ble_eq_true rfl⟩ rfl hl.1 (Nat.le_of_ble_eq_true rfl) ⟨by first | exact Nat.le_of_ble_eq_true rfl | (simp only [rmX2_habitOf]; omega), by first | exact Nat.le_of_ble_eq_true rfl | (simp only [rmX2_habitOf]; omega)⟩ hS5 (hr_AN hAN hS5) dX2_habitOf_8 (rest := []) rfl
    (fun _ _ _ _ _ h => h.elim) (fun v11 H6 locs7 hp10 hF8 hS9 => ?_)
  obtain ⟨rfl, hX9⟩ := hp10
  refine W.eq (g2 := F0 m 11 ls [va_rf ((dt_hof d i kc).map (ly_ha L))]) rfl ?_
  exact hr_aret (Or.inl ⟨_, rfl⟩) (hr_rv _) C hQ (⟨rfl, hr_SX hS9⟩) hS9 (by first | exact Nat.le_of_ble_eq_true rfl | (simp only [rmX2_habitOf]; omega)) (by first | exact Nat.le_of_ble_eq_true rfl | (simp only [rmX2_habitOf]; omega)) dX2_habitOf_11

abbrev rmX2_totalByPeople : Room := { frames := 16, cells := 33, slots := 84, locals := 3141 }
set_option maxHeartbeats 4000000 in
set_option maxRecDepth 100000 in
theorem mtX2_totalByPeople {l : Launch} {D : va_G} {s0 : State} (Z : hr_Z l D s0) {H : Heap} {a : Nat} {L : ly_T} {d : dt_T} (hD : hr_Dt D H a L d) (hV : dt_V d) : hr_M l s0 yX2_totalByPeople (ws_ yX2_totalByPeople cX2_totalByPeople 4 (Option.some Jvm.ClassFile.FieldType.int)) rmX2_totalByPeople [.ref a] H (hr_N H) (fun v H1 => v = some (.int (hr_I (dt_sum (dt_so d) (dt_n d) : Int))) ∧ hr_X H H1) hr_no := by
  refine hr_of Z (by decide) (Nat.le_of_ble_eq_true rfl) (fun _ h => Or.inr h) ?_
  intro p e s m args below meth c Q ls C hQ hin hnx hS hl
  have hAN : ∀ q, H.size ≤ q → (hr_N H) q := (fun _ h => h)
  have hl : lv_has ls 4 [(0, .ref a)] := hl
  refine lv_iconst (v := hr_I 0) C.x C.b dX2_totalByPeople_0 (by decide) ?_
  refine lv_istore_n (lv' := [(1, .int (hr_I 0)), (0, .ref a)]) C.x C.b dX2_totalByPeople_1 rfl hl (by decide) rfl (fun ls hl => ?_)
  refine lv_aload_n C.x C.b dX2_totalByPeople_2 rfl (lv_at hl 1 rfl) ?_
  refine hr_get in_X2 (ci := 1) 0 q313 rfl rfl (by decide) C hD.1 rfl dX2_totalByPeople_3 ?_
  have hn16 := hV.1.1
  refine hr_callV (lw_V q182 q183 q184 q80 q185) (by decide +kernel) (n := 0) C (mtJ2_iterator Z hD.2.1.1) (hD.2.1.1.1.recv C rfl) ⟨Nat.le_of_ble_eq_true rfl, Nat.le_of_ble_eq_true rfl⟩ rfl hl.1 (Nat.le_of_ble_eq_true rfl) ⟨by first | exact Nat.le_of_ble_eq_true rfl | (simp only [rmX2_totalByPeople, rmX2_strengthOf]; omega), by first | exact Nat.le_of_ble_eq_true rfl | (simp only [rmX2_totalByPeople, rmX2_strengthOf]; omega)⟩ hS (hr_AN hAN hS) dX2_totalByPeople_6 (rest := []) rfl
    (fun _ _ _ _ _ h => h.elim) (fun v6 H1 locs2 hp5 hF3 hS4 => ?_)
  obtain ⟨rfl, hI0⟩ := hp5
  refine W.eq (g2 := F0 m 9 ls [.ref H.size]) rfl ?_
  refine lv_astore_n (lv' := [(2, .ref H.size), (1, .int (hr_I 0)), (0, .ref a)]) C.x C.b dX2_totalByPeople_9 rfl hl (by decide) rfl (fun ls hl => ?_)
  have lp : ∀ (r k : Nat) (ls : Array Slot) (H5 : Heap) (locs5 : List Loc) (x9 : Value), k + r = dt_n d → hr_O D H5 H.size 11 [.int (hr_I (k : Int)), x9, .int (ly_p L).2.2.2, .ref (ly_p L).1] → va_S (hr_N H) H H5 locs5 → lv_has ls 4 [(2, .ref H.size), (1, .int (hr_I (dt_sum (dt_so d) k : Int))), (0, .ref a)] → W p l e rmX2_totalByPeople s m args below meth c H5 locs5 (0 + 1 + 2 * k) (0 + 4 + 5 * k) Q (F0 m 10 ls []) := by
    intro r
    induction r with
    | zero =>
      intro k ls H5 locs5 x9  hk hI5 hS5  hl
      have hk9 : k ≤ dt_n d := by omega
      refine lv_aload_n C.x C.b dX2_totalByPeople_10 rfl (lv_at hl 0 rfl) ?_
      refine hr_callF (CC := "java/util/ArrayList$Itr") (x := ⟨"java/util/Iterator", "hasNext", "()Z"⟩) (y := yJ3_hasNext) (lw_app (lw_in _ [206, 210, 212, 81] (by decide +kernel) (by decide +kernel)) (lw_meth q214)) (by decide +kernel) (n := 0) C (C.K.1 11 _ rfl).2 (hr_C.fw5 C (hr_inT _ [208, 207, 213, 211, 209] (by decide +kernel)) (by decide)) (mtJ3_hasNext Z (hD.2.1.1.x (hr_SX hS5)) hI5 hk9) (hI5.recv C rfl) ⟨Nat.le_of_ble_eq_true rfl, Nat.le_of_ble_eq_true rfl⟩ rfl hl.1 (Nat.le_of_ble_eq_true rfl) ⟨by first | exact Nat.le_of_ble_eq_true rfl | (simp only [rmX2_totalByPeople, rmX2_strengthOf]; omega), by first | exact Nat.le_of_ble_eq_true rfl | (simp only [rmX2_totalByPeople, rmX2_strengthOf]; omega)⟩ hS5 (hr_AN hAN hS5) dX2_totalByPeople_11 (rest := []) rfl
        (fun _ _ _ _ _ h => h.elim) (fun v12 H7 locs8 hp11 hF9 hS10 => ?_)
      obtain ⟨hv13, hH14⟩ := hp11; subst hv13; subst hH14
      refine W.eq (g2 := F0 m 16 ls [.int (hr_I (hr_t (decide (k < dt_n d))))]) rfl ?_
      have hkn : k = dt_n d := by omega
      refine hr_ifb_eq C (tgt := 40) dX2_totalByPeople_16 (by decide) (fun hc => ?_) (fun hc => ?_)
      · refine lv_iload_n C.x C.b dX2_totalByPeople_40 rfl (lv_at hl 1 rfl) ?_
        exact hr_iret C hQ (⟨by rw [hkn], hr_SX hS10⟩) hS10 (by first | exact Nat.le_of_ble_eq_true rfl | (simp only [rmX2_totalByPeople, rmX2_strengthOf]; omega)) (by first | exact Nat.le_of_ble_eq_true rfl | (simp only [rmX2_totalByPeople, rmX2_strengthOf]; omega)) dX2_totalByPeople_41
      · exact absurd hc (by simp [hkn])
    | succ r ih =>
      intro k ls H5 locs5 x9  hk hI5 hS5  hl
      have hk9 : k ≤ dt_n d := by omega
      refine lv_aload_n C.x C.b dX2_totalByPeople_10 rfl (lv_at hl 0 rfl) ?_
      refine hr_callF (CC := "java/util/ArrayList$Itr") (x := ⟨"java/util/Iterator", "hasNext", "()Z"⟩) (y := yJ3_hasNext) (lw_app (lw_in _ [206, 210, 212, 81] (by decide +kernel) (by decide +kernel)) (lw_meth q214)) (by decide +kernel) (n := 0) C (C.K.1 11 _ rfl).2 (hr_C.fw5 C (hr_inT _ [208, 207, 213, 211, 209] (by decide +kernel)) (by decide)) (mtJ3_hasNext Z (hD.2.1.1.x (hr_SX hS5)) hI5 hk9) (hI5.recv C rfl) ⟨Nat.le_of_ble_eq_true rfl, Nat.le_of_ble_eq_true rfl⟩ rfl hl.1 (Nat.le_of_ble_eq_true rfl) ⟨by first | exact Nat.le_of_ble_eq_true rfl | (simp only [rmX2_totalByPeople, rmX2_strengthOf]; omega), by first | exact Nat.le_of_ble_eq_true rfl | (simp only [rmX2_totalByPeople, rmX2_strengthOf]; omega)⟩ hS5 (hr_AN hAN hS5) dX2_totalByPeople_11 (rest := []) rfl
        (fun _ _ _ _ _ h => h.elim) (fun v20 H15 locs16 hp19 hF17 hS18 => ?_)
      obtain ⟨hv21, hH22⟩ := hp19; subst hv21; subst hH22
      refine W.eq (g2 := F0 m 16 ls [.int (hr_I (hr_t (decide (k < dt_n d))))]) rfl ?_
      have hkn : k < dt_n d := by omega
      refine hr_ifb_eq C (tgt := 40) dX2_totalByPeople_16 (by decide) (fun hc => ?_) (fun hc => ?_)
      · exact absurd hc (by simp [hkn])
      · refine lv_aload_n C.x C.b dX2_totalByPeople_19 rfl (lv_at hl 0 rfl) ?_
        refine hr_callF (CC := "java/util/ArrayList$Itr") (x := ⟨"java/util/Iterator", "next", "()Ljava/lang/Object;"⟩) (y := yJ3_next) (lw_app (lw_in _ [216, 219, 221, 81] (by decide +kernel) (by decide +kernel)) (lw_meth q223)) (by decide +kernel) (n := 0) C (C.K.1 11 _ rfl).2 (hr_C.fw5 C (hr_inT _ [218, 217, 222, 220, 209] (by decide +kernel)) (by decide)) (mtJ3_next Z (hD.2.1.1.x (hr_SX hS18)) hI5 hkn ((C.up hS).1)) (hI5.recv C rfl) ⟨Nat.le_of_ble_eq_true rfl, Nat.le_of_ble_eq_true rfl⟩ rfl hl.1 (Nat.le_of_ble_eq_true rfl) ⟨by first | exact Nat.le_of_ble_eq_true rfl | (simp only [rmX2_totalByPeople, rmX2_strengthOf]; omega), by first | exact Nat.le_of_ble_eq_true rfl | (simp only [rmX2_totalByPeople, rmX2_strengthOf]; omega)⟩ hS18 (fun q h => h.elim (fun e => by rw [e]; exact (Nat.le_refl _)) (fun h => hAN _ (Nat.le_trans hS18.1 h))) dX2_totalByPeople_20 (rest := []) rfl
          (fun _ _ _ _ _ h => h.elim) (fun v28 H23 locs24 hp27 hF25 hS26 => ?_)
        obtain ⟨rfl, ⟨x2, hI22⟩⟩ := hp27
        refine W.eq (g2 := F0 m 25 ls [.ref (ly_pa L k)]) rfl ?_
        refine va_castS C.x C.b C.ow (C.w _ q427) (C.K.1 3 _ rfl).2 (((hD.2.1.2.1 k hkn).x (hr_SX hS26)).recv C rfl) dX2_totalByPeople_25 ?_
        refine lv_astore_n (lv' := [(3, .ref (ly_pa L k)), (2, .ref H.size), (1, .int (hr_I (dt_sum (dt_so d) k : Int))), (0, .ref a)]) C.x C.b dX2_totalByPeople_28 rfl hl (by decide) rfl (fun ls hl => ?_)
        refine lv_iload_n C.x C.b dX2_totalByPeople_29 rfl (lv_at hl 2 rfl) ?_
        refine lv_aload_n C.x C.b dX2_totalByPeople_30 rfl (lv_at hl 3 rfl) ?_
        refine lv_aload_n C.x C.b dX2_totalByPeople_31 rfl (lv_at hl 0 rfl) ?_
        refine hr_callV (lw_V q172 q173 q174 q77 q175) (by decide +kernel) (n := 1) C (mtX2_strengthOf Z (hD.x (hr_SX hS26)) hV hkn) ((hD.1.x (hr_SX hS26)).recv C rfl) ⟨Nat.le_of_ble_eq_true rfl, Nat.le_of_ble_eq_true rfl⟩ rfl hl.1 (Nat.le_of_ble_eq_true rfl) ⟨by first | exact Nat.le_of_ble_eq_true rfl | (simp only [rmX2_totalByPeople, rmX2_strengthOf]; omega), by first | exact Nat.le_of_ble_eq_true rfl | (simp only [rmX2_totalByPeople, rmX2_strengthOf]; omega)⟩ hS26 (hr_AN hAN hS26) dX2_totalByPeople_32 (rest := [.int (hr_I (dt_sum (dt_so d) k : Int))]) rfl
          (fun _ _ _ _ _ h => h.elim) (fun v34 H29 locs30 hp33 hF31 hS32 => ?_)
        obtain ⟨rfl, hX9⟩ := hp33
        refine W.eq (g2 := F0 m 35 ls [.int (hr_I (dt_so d k : Int)), .int (hr_I (dt_sum (dt_so d) k : Int))]) rfl ?_
        refine t_iadd C.x C.b dX2_totalByPeople_35 (v := hr_I ((dt_sum (dt_so d) k : Int) + (dt_so d k : Int))) (hr_add _ _) ?_
        refine lv_istore_n (lv' := [(1, .int (hr_I ((dt_sum (dt_so d) k : Int) + (dt_so d k : Int)))), (3, .ref (ly_pa L k)), (2, .ref H.size), (0, .ref a)]) C.x C.b dX2_totalByPeople_36 rfl hl (by decide) rfl (fun ls hl => ?_)
        have e935 : (dt_sum (dt_so d) k : Int) + (dt_so d k : Int) = ((dt_sum (dt_so d) (k + 1) : Nat) : Int) := dt_sum_s (dt_so d) k rfl
        rw [e935] at hl
        refine lv_goto (tgt := 10) C.x C.b dX2_totalByPeople_37 (by decide) ?_
        exact ih (k + 1) ls _ _ _  (by omega) (hI22.x hF31) hS32  (lv_sub hl [2, 0, 3] rfl)
  exact lp (dt_n d) 0 ls _ _ _  (Nat.zero_add _) hI0 hS4  (lv_sub hl [0, 1, 2] rfl)

/-- who is ahead, by strength, generation, number -/
def dt_ah (d : dt_T) (i j : Nat) : Bool := decide (dt_so d j < dt_so d i ∨ dt_so d i = dt_so d j ∧ (dt_gen d i < dt_gen d j ∨ dt_gen d i = dt_gen d j ∧ i < j))
theorem dt_so_le {d : dt_T} (hV : dt_V d) (i : Nat) : dt_so d i ≤ 180 := by
  have h := dt_sum_le' (f := fun h => if decide (dt_ho d h = some i) = true then dt_st d h else 0) (b := 9) (dt_k d) (fun j hj => by
    show (if decide (dt_ho d j = some i) = true then dt_st d j else 0) ≤ 9
    split
    · exact dt_st9 hV j hj
    · omega)
  have := hV.2.1
  unfold dt_so
  omega
abbrev rmX2_lambda_new_3 : Room := { frames := 16, cells := 4, slots := 10, locals := 3141 }
set_option maxHeartbeats 4000000 in
set_option maxRecDepth 100000 in
theorem mtl_3 {l : Launch} {D : va_G} {s0 : State} (Z : hr_Z l D s0) {H : Heap} {a : Nat} {L : ly_T} {d : dt_T} (hD : hr_Dt D H a L d) (hV : dt_V d) {i : Nat} (hi : i < dt_n d) {j : Nat} (hj : j < dt_n d) : hr_M l s0 yX2_lambda_new_3 (ws_ yX2_lambda_new_3 cX2_lambda_new_3 5 (Option.some Jvm.ClassFile.FieldType.boolean)) rmX2_lambda_new_3 [.ref a, .ref (ly_pa L i), .ref (ly_pa L j)] H (hr_N H) (fun v H1 => v = some (.int (hr_I (hr_t (dt_ah d i j)))) ∧ hr_X H H1) hr_no := by
  refine hr_of Z (by decide) (Nat.le_of_ble_eq_true rfl) (fun _ h => Or.inr h) ?_
  intro p e s m args below meth c Q ls C hQ hin hnx hS hl
  have hAN : ∀ q, H.size ≤ q → (hr_N H) q := (fun _ h => h)
  have hl : lv_has ls 5 [(0, .ref a), (1, .ref (ly_pa L i)), (2, .ref (ly_pa L j))] := hl
  have hn16 := hV.1.1
  have s1 := dt_so_le hV i
  have s2 := dt_so_le hV j
  have g1 := dt_gen16 hV.1 hi
  have g2 := dt_gen16 hV.1 hj
  refine lv_aload_n C.x C.b dX2_lambda_new_3_0 rfl (lv_at hl 0 rfl) ?_
  refine lv_aload_n C.x C.b dX2_lambda_new_3_1 rfl (lv_at hl 1 rfl) ?_
  refine hr_callV (lw_V q172 q173 q174 q77 q175) (by decide +kernel) (n := 1) C (mtX2_strengthOf Z hD hV hi) (hD.1.recv C rfl) ⟨Nat.le_of_ble_eq_true rfl, Nat.le_of_ble_eq_true rfl⟩ rfl hl.1 (Nat.le_of_ble_eq_true rfl) ⟨by first | exact Nat.le_of_ble_eq_true rfl | (simp only [rmX2_lambda_new_3, rmX2_strengthOf]; omega), by first | exact Nat.le_of_ble_eq_true rfl | (simp only [rmX2_lambda_new_3, rmX2_strengthOf]; omega)⟩ hS (hr_AN hAN hS) dX2_lambda_new_3_2 (rest := []) rfl
    (fun _ _ _ _ _ h => h.elim) (fun v6 H1 locs2 hp5 hF3 hS4 => ?_)
  obtain ⟨rfl, hX9⟩ := hp5
  refine W.eq (g2 := F0 m 5 ls [.int (hr_I (dt_so d i : Int))]) rfl ?_
  refine lv_aload_n C.x C.b dX2_lambda_new_3_5 rfl (lv_at hl 0 rfl) ?_
  refine lv_aload_n C.x C.b dX2_lambda_new_3_6 rfl (lv_at hl 2 rfl) ?_
  refine hr_callV (lw_V q172 q173 q174 q77 q175) (by decide +kernel) (n := 1) C (mtX2_strengthOf Z (hD.x (hr_SX hS4)) hV hj) ((hD.1.x (hr_SX hS4)).recv C rfl) ⟨Nat.le_of_ble_eq_true rfl, Nat.le_of_ble_eq_true rfl⟩ rfl hl.1 (Nat.le_of_ble_eq_true rfl) ⟨by first | exact Nat.le_of_ble_eq_true rfl | (simp only [rmX2_lambda_new_3, rmX2_strengthOf]; omega), by first | exact Nat.le_of_ble_eq_true rfl | (simp only [rmX2_lambda_new_3, rmX2_strengthOf]; omega)⟩ hS4 (hr_AN hAN hS4) dX2_lambda_new_3_7 (rest := [.int (hr_I (dt_so d i : Int))]) rfl
    (fun _ _ _ _ _ h => h.elim) (fun v12 H7 locs8 hp11 hF9 hS10 => ?_)
  obtain ⟨rfl, hX8⟩ := hp11
  refine W.eq (g2 := F0 m 10 ls [.int (hr_I (dt_so d j : Int)), .int (hr_I (dt_so d i : Int))]) rfl ?_
  refine t_isub C.x C.b dX2_lambda_new_3_10 (v := hr_I ((dt_so d i : Int) - (dt_so d j : Int))) (hr_sub _ _) ?_
  refine lv_istore_n (lv' := [(3, .int (hr_I ((dt_so d i : Int) - (dt_so d j : Int)))), (0, .ref a), (1, .ref (ly_pa L i)), (2, .ref (ly_pa L j))]) C.x C.b dX2_lambda_new_3_11 rfl hl (by decide) rfl (fun ls hl => ?_)
  refine lv_aload_n C.x C.b dX2_lambda_new_3_12 rfl (lv_at hl 3 rfl) ?_
  refine hr_callV (lw_V q309 q310 q311 q93 q312) (by decide +kernel) (n := 0) C (mtX4_generation Z (hD.2.1.x (hr_SX hS10)) hV.1 hj) (((hD.2.1.2.1 j hj).x (hr_SX hS10)).recv C rfl) ⟨Nat.le_of_ble_eq_true rfl, Nat.le_of_ble_eq_true rfl⟩ rfl hl.1 (Nat.le_of_ble_eq_true rfl) ⟨by first | exact Nat.le_of_ble_eq_true rfl | (simp only [rmX2_lambda_new_3, rmX2_strengthOf]; omega), by first | exact Nat.le_of_ble_eq_true rfl | (simp only [rmX2_lambda_new_3, rmX2_strengthOf]; omega)⟩ hS10 (hr_AN hAN hS10) dX2_lambda_new_3_13 (rest := []) rfl
    (fun _ _ _ _ _ h => h.elim) (fun v18 H13 locs14 hp17 hF15 hS16 => ?_)
  obtain ⟨hv19, hH20⟩ := hp17; subst hv19; subst hH20
  refine W.eq (g2 := F0 m 16 ls [.int (hr_I (dt_gen d j : Int))]) rfl ?_
  refine lv_aload_n C.x C.b dX2_lambda_new_3_16 rfl (lv_at hl 2 rfl) ?_
  refine hr_callV (lw_V q309 q310 q311 q93 q312) (by decide +kernel) (n := 0) C (mtX4_generation Z (hD.2.1.x (hr_SX hS16)) hV.1 hi) (((hD.2.1.2.1 i hi).x (hr_SX hS16)).recv C rfl) ⟨Nat.le_of_ble_eq_true rfl, Nat.le_of_ble_eq_true rfl⟩ rfl hl.1 (Nat.le_of_ble_eq_true rfl) ⟨by first | exact Nat.le_of_ble_eq_true rfl | (simp only [rmX2_lambda_new_3, rmX2_strengthOf]; omega), by first | exact Nat.le_of_ble_eq_true rfl | (simp only [rmX2_lambda_new_3, rmX2_strengthOf]; omega)⟩ hS16 (hr_AN hAN hS16) dX2_lambda_new_3_17 (rest := [.int (hr_I (dt_gen d j : Int))]) rfl
    (fun _ _ _ _ _ h => h.elim) (fun v26 H21 locs22 hp25 hF23 hS24 => ?_)
  obtain ⟨hv27, hH28⟩ := hp25; subst hv27; subst hH28
  refine W.eq (g2 := F0 m 20 ls [.int (hr_I (dt_gen d i : Int)), .int (hr_I (dt_gen d j : Int))]) rfl ?_
  refine t_isub C.x C.b dX2_lambda_new_3_20 (v := hr_I ((dt_gen d j : Int) - (dt_gen d i : Int))) (hr_sub _ _) ?_
  refine lv_istore (lv' := [(4, .int (hr_I ((dt_gen d j : Int) - (dt_gen d i : Int)))), (3, .int (hr_I ((dt_so d i : Int) - (dt_so d j : Int)))), (0, .ref a), (1, .ref (ly_pa L i)), (2, .ref (ly_pa L j))]) C.x C.b dX2_lambda_new_3_21 hl (by decide) rfl (fun ls hl => ?_)
  refine lv_iload_n C.x C.b dX2_lambda_new_3_23 rfl (lv_at hl 1 rfl) ?_
  refine hr_if_gt C (tgt := 52) dX2_lambda_new_3_24 (by decide) (by omega) (fun c1 => ?_) (fun c1 => ?_)
  · refine lv_iconst (v := hr_I 1) C.x C.b dX2_lambda_new_3_52 (by decide) ?_
    refine lv_goto (tgt := 57) C.x C.b dX2_lambda_new_3_53 (by decide) ?_
    exact hr_zret C hQ rfl (⟨by rw [show dt_ah d i j = true from decide_eq_true (by omega)]; rfl, hr_SX hS24⟩) hS24 (by first | exact Nat.le_of_ble_eq_true rfl | (simp only [rmX2_lambda_new_3, rmX2_strengthOf]; omega)) (by first | exact Nat.le_of_ble_eq_true rfl | (simp only [rmX2_lambda_new_3, rmX2_strengthOf]; omega)) dX2_lambda_new_3_57
  · refine lv_iload_n C.x C.b dX2_lambda_new_3_27 rfl (lv_at hl 1 rfl) ?_
    refine hr_if_ne C (tgt := 56) dX2_lambda_new_3_28 (by decide) (by omega) (fun c2 => ?_) (fun c2 => ?_)
    · refine lv_iconst (v := hr_I 0) C.x C.b dX2_lambda_new_3_56 (by decide) ?_
      exact hr_zret C hQ rfl (⟨by rw [show dt_ah d i j = false from decide_eq_false (by omega)]; rfl, hr_SX hS24⟩) hS24 (by first | exact Nat.le_of_ble_eq_true rfl | (simp only [rmX2_lambda_new_3, rmX2_strengthOf]; omega)) (by first | exact Nat.le_of_ble_eq_true rfl | (simp only [rmX2_lambda_new_3, rmX2_strengthOf]; omega)) dX2_lambda_new_3_57
    · refine lv_iload C.x C.b dX2_lambda_new_3_31 (lv_at hl 0 rfl) ?_
      refine hr_if_gt C (tgt := 52) dX2_lambda_new_3_33 (by decide) (by omega) (fun c3 => ?_) (fun c3 => ?_)
      · refine lv_iconst (v := hr_I 1) C.x C.b dX2_lambda_new_3_52 (by decide) ?_
        refine lv_goto (tgt := 57) C.x C.b dX2_lambda_new_3_53 (by decide) ?_
        exact hr_zret C hQ rfl (⟨by rw [show dt_ah d i j = true from decide_eq_true (by omega)]; rfl, hr_SX hS24⟩) hS24 (by first | exact Nat.le_of_ble_eq_true rfl | (simp only [rmX2_lambda_new_3, rmX2_strengthOf]; omega)) (by first | exact Nat.le_of_ble_eq_true rfl | (simp only [rmX2_lambda_new_3, rmX2_strengthOf]; omega)) dX2_lambda_new_3_57
      · refine lv_iload C.x C.b dX2_lambda_new_3_36 (lv_at hl 0 rfl) ?_
        refine hr_if_ne C (tgt := 56) dX2_lambda_new_3_38 (by decide) (by omega) (fun c4 => ?_) (fun c4 => ?_)
        · refine lv_iconst (v := hr_I 0) C.x C.b dX2_lambda_new_3_56 (by decide) ?_
          exact hr_zret C hQ rfl (⟨by rw [show dt_ah d i j = false from decide_eq_false (by omega)]; rfl, hr_SX hS24⟩) hS24 (by first | exact Nat.le_of_ble_eq_true rfl | (simp only [rmX2_lambda_new_3, rmX2_strengthOf]; omega)) (by first | exact Nat.le_of_ble_eq_true rfl | (simp only [rmX2_lambda_new_3, rmX2_strengthOf]; omega)) dX2_lambda_new_3_57
        · refine lv_aload_n C.x C.b dX2_lambda_new_3_41 rfl (lv_at hl 3 rfl) ?_
          refine hr_getN in_X4 (ci := 3) 0 q632 rfl rfl (by decide) C ((hD.2.1.2.1 i hi).x (hr_SX hS24)) rfl dX2_lambda_new_3_42 ?_
          refine lv_aload_n C.x C.b dX2_lambda_new_3_45 rfl (lv_at hl 4 rfl) ?_
          refine hr_getN in_X4 (ci := 3) 0 q632 rfl rfl (by decide) C ((hD.2.1.2.1 j hj).x (hr_SX hS24)) rfl dX2_lambda_new_3_46 ?_
          refine hr_icmp_ge C (tgt := 56) dX2_lambda_new_3_49 (by decide) (by omega) (by omega) (fun c5 => ?_) (fun c5 => ?_)
          · refine lv_iconst (v := hr_I 0) C.x C.b dX2_lambda_new_3_56 (by decide) ?_
            exact hr_zret C hQ rfl (⟨by rw [show dt_ah d i j = false from decide_eq_false (by omega)]; rfl, hr_SX hS24⟩) hS24 (by first | exact Nat.le_of_ble_eq_true rfl | (simp only [rmX2_lambda_new_3, rmX2_strengthOf]; omega)) (by first | exact Nat.le_of_ble_eq_true rfl | (simp only [rmX2_lambda_new_3, rmX2_strengthOf]; omega)) dX2_lambda_new_3_57
          · refine lv_iconst (v := hr_I 1) C.x C.b dX2_lambda_new_3_52 (by decide) ?_
            refine lv_goto (tgt := 57) C.x C.b dX2_lambda_new_3_53 (by decide) ?_
            exact hr_zret C hQ rfl (⟨by rw [show dt_ah d i j = true from decide_eq_true (by omega)]; rfl, hr_SX hS24⟩) hS24 (by first | exact Nat.le_of_ble_eq_true rfl | (simp only [rmX2_lambda_new_3, rmX2_strengthOf]; omega)) (by first | exact Nat.le_of_ble_eq_true rfl | (simp only [rmX2_lambda_new_3, rmX2_strengthOf]; omega)) dX2_lambda_new_3_57

abbrev rmX2_lambda_habitAt_7 : Room := { frames := 1, cells := 0, slots := 0, locals := 33 }
set_option maxHeartbeats 4000000 in
set_option maxRecDepth 100000 in
theorem mtl_10 {l : Launch} {D : va_G} {s0 : State} (Z : hr_Z l D s0) {H : Heap} {L : ly_T} {d : dt_T} (hP : hr_pp D H L d) (hH : hr_hh D H L d) (hV : dt_V d) {g : Nat} (hg : g < dt_k d) {h : Nat} (hh : h < dt_k d) : hr_M l s0 yX2_lambda_habitAt_7 (ws_ yX2_lambda_habitAt_7 cX2_lambda_habitAt_7 2 (Option.some Jvm.ClassFile.FieldType.boolean)) rmX2_lambda_habitAt_7 [.ref (ly_ha L g), .ref (ly_ha L h)] H (hr_N H) (fun v H1 => v = some (.int (hr_I (hr_t ((dt_ho d h).isSome && dt_hb d h g)))) ∧ H = H1) hr_no := by
  refine hr_of Z (by decide) (Nat.le_of_ble_eq_true rfl) (fun _ h => Or.inr h) ?_
  intro p e s m args below meth c Q ls C hQ hin hnx hS hl
  have hAN : ∀ q, H.size ≤ q → (hr_N H) q := (fun _ h => h)
  have hl : lv_has ls 2 [(0, .ref (ly_ha L g)), (1, .ref (ly_ha L h))] := hl
  refine lv_aload_n C.x C.b dX2_lambda_habitAt_7_0 rfl (lv_at hl 1 rfl) ?_
  refine hr_callV (lw_V q161 q162 q163 q98 q164) (by decide +kernel) (n := 0) C (mtX5_isExtinct Z hH hh) ((hH.2 h hh).recv C rfl) ⟨Nat.le_of_ble_eq_true rfl, Nat.le_of_ble_eq_true rfl⟩ rfl hl.1 (Nat.le_of_ble_eq_true rfl) ⟨by first | exact Nat.le_of_ble_eq_true rfl | (simp only [rmX2_lambda_habitAt_7]; omega), by first | exact Nat.le_of_ble_eq_true rfl | (simp only [rmX2_lambda_habitAt_7]; omega)⟩ hS (hr_AN hAN hS) dX2_lambda_habitAt_7_1 (rest := []) rfl
    (fun _ _ _ _ _ h => h.elim) (fun v6 H1 locs2 hp5 hF3 hS4 => ?_)
  obtain ⟨hv7, hH8⟩ := hp5; subst hv7; subst hH8
  refine W.eq (g2 := F0 m 4 ls [.int (hr_I (hr_t (dt_ho d h).isNone))]) rfl ?_
  refine hr_ifb_ne C (tgt := 19) dX2_lambda_habitAt_7_4 (by decide) (fun hc => ?_) (fun hc => ?_)
  · refine lv_iconst (v := hr_I 0) C.x C.b dX2_lambda_habitAt_7_19 (by decide) ?_
    exact hr_zret C hQ rfl (⟨by rw [show ((dt_ho d h).isSome && dt_hb d h g) = false by cases h9 : dt_ho d h <;> simp_all]; rfl, rfl⟩) hS4 (by first | exact Nat.le_of_ble_eq_true rfl | (simp only [rmX2_lambda_habitAt_7]; omega)) (by first | exact Nat.le_of_ble_eq_true rfl | (simp only [rmX2_lambda_habitAt_7]; omega)) dX2_lambda_habitAt_7_20
  · have hs9 : (dt_ho d h).isSome = true := by cases h9 : dt_ho d h <;> simp_all
    refine lv_aload_n C.x C.b dX2_lambda_habitAt_7_7 rfl (lv_at hl 1 rfl) ?_
    refine lv_aload_n C.x C.b dX2_lambda_habitAt_7_8 rfl (lv_at hl 0 rfl) ?_
    refine hr_callV (lw_V q1394 q1395 q1396 q98 q1397) (by decide +kernel) (n := 1) C (mtX5_isBefore Z hH hV hh hg) ((hH.2 h hh).recv C rfl) ⟨Nat.le_of_ble_eq_true rfl, Nat.le_of_ble_eq_true rfl⟩ rfl hl.1 (Nat.le_of_ble_eq_true rfl) ⟨by first | exact Nat.le_of_ble_eq_true rfl | (simp only [rmX2_lambda_habitAt_7]; omega), by first | exact Nat.le_of_ble_eq_true rfl | (simp only [rmX2_lambda_habitAt_7]; omega)⟩ hS4 (hr_AN hAN hS4) dX2_lambda_habitAt_7_9 (rest := []) rfl
      (fun _ _ _ _ _ h => h.elim) (fun v14 H9 locs10 hp13 hF11 hS12 => ?_)
    obtain ⟨hv15, hH16⟩ := hp13; subst hv15; subst hH16
    refine W.eq (g2 := F0 m 12 ls [.int (hr_I (hr_t (dt_hb d h g)))]) rfl ?_
    refine hr_ifb_eq C (tgt := 19) dX2_lambda_habitAt_7_12 (by decide) (fun hc8 => ?_) (fun hc8 => ?_)
    · refine lv_iconst (v := hr_I 0) C.x C.b dX2_lambda_habitAt_7_19 (by decide) ?_
      exact hr_zret C hQ rfl (⟨by rw [show ((dt_ho d h).isSome && dt_hb d h g) = false by rw [hc8]; simp]; rfl, rfl⟩) hS12 (by first | exact Nat.le_of_ble_eq_true rfl | (simp only [rmX2_lambda_habitAt_7]; omega)) (by first | exact Nat.le_of_ble_eq_true rfl | (simp only [rmX2_lambda_habitAt_7]; omega)) dX2_lambda_habitAt_7_20
    · refine lv_iconst (v := hr_I 1) C.x C.b dX2_lambda_habitAt_7_15 (by decide) ?_
      refine lv_goto (tgt := 20) C.x C.b dX2_lambda_habitAt_7_16 (by decide) ?_
      exact hr_zret C hQ rfl (⟨by rw [show ((dt_ho d h).isSome && dt_hb d h g) = true by rw [hc8, hs9]; rfl]; rfl, rfl⟩) hS12 (by first | exact Nat.le_of_ble_eq_true rfl | (simp only [rmX2_lambda_habitAt_7]; omega)) (by first | exact Nat.le_of_ble_eq_true rfl | (simp only [rmX2_lambda_habitAt_7]; omega)) dX2_lambda_habitAt_7_20

def dt_rk (d : dt_T) (g : Nat) : Nat := dt_sum (fun h => if ((dt_ho d h).isSome && dt_hb d h g) = true then 1 else 0) (dt_k d)
def dt_hat (d : dt_T) (z : Int) : Option Nat := dt_ff (fun h => (dt_ho d h).isSome && decide ((dt_rk d h : Int) = z)) (dt_k d)
theorem dt_rk_le {d : dt_T} (hV : dt_V d) (g : Nat) : dt_rk d g ≤ 20 := by
  have h := dt_sum_le (f := fun h => if ((dt_ho d h).isSome && dt_hb d h g) = true then 1 else 0) (b := 1) (fun j => by show (if _ then 1 else 0) ≤ 1; split <;> omega) (dt_k d)
  have := hV.2.1
  unfold dt_rk
  omega
abbrev rmX2_lambda_habitAt_8 : Room := { frames := 15, cells := 2, slots := 5, locals := 3120 }
set_option maxHeartbeats 4000000 in
set_option maxRecDepth 100000 in
theorem mtl_9 {l : Launch} {D : va_G} {s0 : State} (Z : hr_Z l D s0) {H : Heap} {a : Nat} {L : ly_T} {d : dt_T} (hD : hr_Dt D H a L d) (hV : dt_V d) {z : Int} (rz : hr_R z) {h : Nat} (hh : h < dt_k d) : hr_M l s0 yX2_lambda_habitAt_8 (ws_ yX2_lambda_habitAt_8 cX2_lambda_habitAt_8 3 (Option.some Jvm.ClassFile.FieldType.boolean)) rmX2_lambda_habitAt_8 [.ref a, .int (hr_I z), .ref (ly_ha L h)] H (hr_N H) (fun v H1 => v = some (.int (hr_I (hr_t ((dt_ho d h).isSome && decide ((dt_rk d h : Int) = z))))) ∧ hr_X H H1) hr_no := by
  refine hr_ofN Z (by decide) (Nat.le_of_ble_eq_true rfl) (fun _ h => Or.inr h) ?_
  intro p e s m args below meth c Q ls C hQ hin hnx hS hnm hl
  have hAN : ∀ q, H.size ≤ q → (hr_N H) q := (fun _ h => h)
  have hl : lv_has ls 3 [(0, .ref a), (1, .int (hr_I z)), (2, .ref (ly_ha L h))] := hl
  refine lv_aload_n C.x C.b dX2_lambda_habitAt_8_0 rfl (lv_at hl 2 rfl) ?_
  refine hr_callV (lw_V q161 q162 q163 q98 q164) (by decide +kernel) (n := 0) C (mtX5_isExtinct Z hD.2.2.1 hh) ((hD.2.2.1.2 h hh).recv C rfl) ⟨Nat.le_of_ble_eq_true rfl, Nat.le_of_ble_eq_true rfl⟩ rfl hl.1 (Nat.le_of_ble_eq_true rfl) ⟨by first | exact Nat.le_of_ble_eq_true rfl | (simp only [rmX2_lambda_habitAt_8]; omega), by first | exact Nat.le_of_ble_eq_true rfl | (simp only [rmX2_lambda_habitAt_8]; omega)⟩ hS (hr_AN hAN hS) dX2_lambda_habitAt_8_1 (rest := []) rfl
    (fun _ _ _ _ _ h => h.elim) (fun v6 H1 locs2 hp5 hF3 hS4 => ?_)
  obtain ⟨hv7, hH8⟩ := hp5; subst hv7; subst hH8
  refine W.eq (g2 := F0 m 4 ls [.int (hr_I (hr_t (dt_ho d h).isNone))]) rfl ?_
  refine hr_ifb_ne C (tgt := 29) dX2_lambda_habitAt_8_4 (by decide) (fun hc => ?_) (fun hc => ?_)
  · refine lv_iconst (v := hr_I 0) C.x C.b dX2_lambda_habitAt_8_29 (by decide) ?_
    exact hr_zret C hQ rfl (⟨by rw [show ((dt_ho d h).isSome && decide ((dt_rk d h : Int) = z)) = false by cases h9 : dt_ho d h <;> simp_all]; rfl, hr_SX hS4⟩) hS4 (by first | exact Nat.le_of_ble_eq_true rfl | (simp only [rmX2_lambda_habitAt_8]; omega)) (by first | exact Nat.le_of_ble_eq_true rfl | (simp only [rmX2_lambda_habitAt_8]; omega)) dX2_lambda_habitAt_8_30
  · have hs9 : (dt_ho d h).isSome = true := by cases h9 : dt_ho d h <;> simp_all
    refine lv_aload_n C.x C.b dX2_lambda_habitAt_8_7 rfl (lv_at hl 0 rfl) ?_
    refine lv_aload_n C.x C.b dX2_lambda_habitAt_8_8 rfl (lv_at hl 2 rfl) ?_
    refine lm_make lga10 lgb10 lge10 lgg10 lgh10 (j := 10) (idx := 281) (x := lgx10) rfl rfl (by decide) (tys := [.object "HabitRegistry$Habit"]) lgt10 (vals := [.ref (ly_ha L h)]) (rest := [.ref a]) rfl rfl (lm_n1 ⟨rfl, rfl⟩) C hnm hl.1 (Nat.le_of_ble_eq_true rfl) ⟨by first | exact Nat.le_of_ble_eq_true rfl | (simp only [rmX2_lambda_habitAt_8]; omega), by first | exact Nat.le_of_ble_eq_true rfl | (simp only [rmX2_lambda_habitAt_8]; omega)⟩ hS4 dX2_lambda_habitAt_8_9 (fun H9 hLa10 hX11 hz12 hS13 => ?_)
    have hD1 := hD.x hX11
    refine lv_aload_n C.x C.b dX2_lambda_habitAt_8_14 rfl (lv_at hl 0 rfl) ?_
    refine hr_get in_X2 (ci := 1) 8 q329 rfl rfl (by decide) C (hD.1.x hX11) rfl dX2_lambda_habitAt_8_15 ?_
    refine hr_callV (lw_V q178 q179 q180 q77 q181) (by decide +kernel) (n := 2) C (mtX2_sum Z (φ := fun g => (dt_ho d g).isSome && dt_hb d g h) (ψ := fun _ => 1) hD1.1 hD1.2.2.1 hV.2.1 (fun g h9 H2 hX2 => ((lq_10 (hLa10.x hX2) (mtl_10 Z (hD1.2.1.x hX2) (hD1.2.2.1.x hX2) hV hh h9) (fun _ h => h) ⟨_, rfl⟩).mono (Nat.le_of_ble_eq_true rfl) (Nat.le_of_ble_eq_true rfl) rfl rfl)) (fun g h9 _ H2 hX2 => ((lq_2 (hD1.2.2.2.2.2.1.x hX2) (mtl_2 Z (hD1.2.1.x hX2) (hD1.2.2.1.x hX2) hV h9) (fun _ h => h)).mono (Nat.le_of_ble_eq_true rfl) (Nat.le_of_ble_eq_true rfl) rfl rfl))) ((hD.1.x hX11).recv C rfl) ⟨Nat.le_of_ble_eq_true rfl, Nat.le_of_ble_eq_true rfl⟩ rfl hl.1 (Nat.le_of_ble_eq_true rfl) ⟨by first | exact Nat.le_of_ble_eq_true rfl | (simp only [rmX2_lambda_habitAt_8]; omega), by first | exact Nat.le_of_ble_eq_true rfl | (simp only [rmX2_lambda_habitAt_8]; omega)⟩ hS13 (hr_AN hAN hS13) dX2_lambda_habitAt_8_18 (rest := []) rfl
      (fun _ _ _ _ _ h => h.elim) (fun v19 H14 locs15 hp18 hF16 hS17 => ?_)
    obtain ⟨rfl, hX9⟩ := hp18
    refine W.eq (g2 := F0 m 21 ls [.int (hr_I (dt_rk d h : Int))]) rfl ?_
    have hrk := dt_rk_le hV h
    refine lv_iload_n C.x C.b dX2_lambda_habitAt_8_21 rfl (lv_at hl 1 rfl) ?_
    refine hr_icmp_ne C (tgt := 29) dX2_lambda_habitAt_8_22 (by decide) ⟨by omega, by omega⟩ rz (fun hc8 => ?_) (fun hc8 => ?_)
    · refine lv_iconst (v := hr_I 0) C.x C.b dX2_lambda_habitAt_8_29 (by decide) ?_
      exact hr_zret C hQ rfl (⟨by rw [show ((dt_ho d h).isSome && decide ((dt_rk d h : Int) = z)) = false by rw [hs9]; simp [hc8]]; rfl, hr_SX hS17⟩) hS17 (by first | exact Nat.le_of_ble_eq_true rfl | (simp only [rmX2_lambda_habitAt_8]; omega)) (by first | exact Nat.le_of_ble_eq_true rfl | (simp only [rmX2_lambda_habitAt_8]; omega)) dX2_lambda_habitAt_8_30
    · refine lv_iconst (v := hr_I 1) C.x C.b dX2_lambda_habitAt_8_25 (by decide) ?_
      refine lv_goto (tgt := 30) C.x C.b dX2_lambda_habitAt_8_26 (by decide) ?_
      exact hr_zret C hQ rfl (⟨by rw [show ((dt_ho d h).isSome && decide ((dt_rk d h : Int) = z)) = true by rw [hs9]; simp [hc8]]; rfl, hr_SX hS17⟩) hS17 (by first | exact Nat.le_of_ble_eq_true rfl | (simp only [rmX2_lambda_habitAt_8]; omega)) (by first | exact Nat.le_of_ble_eq_true rfl | (simp only [rmX2_lambda_habitAt_8]; omega)) dX2_lambda_habitAt_8_30

abbrev rmL8 : Room := { frames := 17, cells := 2, slots := 5, locals := 3200 }
abbrev rmX2_find8 : Room := { frames := 18, cells := 41, slots := 104, locals := 3200 }
set_option maxHeartbeats 4000000 in
set_option maxRecDepth 100000 in
theorem mtX2_find8 {l : Launch} {D : va_G} {s0 : State} (Z : hr_Z l D s0) {H : Heap} {a t : Nat} {L : ly_T} {d : dt_T} {φ : Nat → Bool} (hD : hr_O D H a 1 (fs_D d L)) (hH : hr_hh D H L d) (hk : dt_k d ≤ 20) (hT : ∀ h, h < dt_k d → ∀ H1, hr_X H H1 → lm_Call l D s0 140 rmL8 H1 t [.ref (ly_ha L h)] (hr_t (φ h)) (fun H2 => hr_X H1 H2)) : hr_M l s0 yX2_find (ws_ yX2_find cX2_find 4 (Option.some (Jvm.ClassFile.FieldType.object "HabitRegistry$Habit"))) rmX2_find8 [.ref a, .ref t] H (hr_N H) (fun v H1 => v = some (va_rf ((dt_ff φ (dt_k d)).map (ly_ha L))) ∧ hr_X H H1) hr_no := by
  refine hr_of Z (by decide) (Nat.le_of_ble_eq_true rfl) (fun _ h => Or.inr h) ?_
  intro p e s m args below meth c Q ls C hQ hin hnx hS hl
  have hAN : ∀ q, H.size ≤ q → (hr_N H) q := (fun _ h => h)
  have hl : lv_has ls 4 [(0, .ref a), (1, .ref t)] := hl
  refine lv_aload_n C.x C.b dX2_find_0 rfl (lv_at hl 0 rfl) ?_
  refine hr_get in_X2 (ci := 1) 1 q315 rfl rfl (by decide) C hD rfl dX2_find_1 ?_
  refine hr_callV (lw_V q182 q183 q184 q80 q185) (by decide +kernel) (n := 0) C (mtJ2_iterator Z hH.1) (hH.1.1.recv C rfl) ⟨Nat.le_of_ble_eq_true rfl, Nat.le_of_ble_eq_true rfl⟩ rfl hl.1 (Nat.le_of_ble_eq_true rfl) ⟨by first | exact Nat.le_of_ble_eq_true rfl | (simp only [rmX2_find8, rmL8]; omega), by first | exact Nat.le_of_ble_eq_true rfl | (simp only [rmX2_find8, rmL8]; omega)⟩ hS (hr_AN hAN hS) dX2_find_4 (rest := []) rfl
    (fun _ _ _ _ _ h => h.elim) (fun v6 H1 locs2 hp5 hF3 hS4 => ?_)
  obtain ⟨rfl, hI0⟩ := hp5
  refine W.eq (g2 := F0 m 7 ls [.ref H.size]) rfl ?_
  refine lv_astore_n (lv' := [(2, .ref H.size), (0, .ref a), (1, .ref t)]) C.x C.b dX2_find_7 rfl hl (by decide) rfl (fun ls hl => ?_)
  have lp : ∀ (r k : Nat) (ls : Array Slot) (H5 : Heap) (locs5 : List Loc) (x9 : Value), k + r = dt_k d → hr_O D H5 H.size 11 [.int (hr_I (k : Int)), x9, .int (ly_h L).2.2.2, .ref (ly_h L).1] → va_S (hr_N H) H H5 locs5 → (∀ j, j < k → φ j = false) → lv_has ls 4 [(2, .ref H.size), (0, .ref a), (1, .ref t)] → W p l e rmX2_find8 s m args below meth c H5 locs5 (0 + 1 + 2 * k) (0 + 4 + 5 * k) Q (F0 m 8 ls []) := by
    intro r
    induction r with
    | zero =>
      intro k ls H5 locs5 x9  hk hI5 hS5 hno hl
      have hk9 : k ≤ dt_k d := by omega
      refine lv_aload_n C.x C.b dX2_find_8 rfl (lv_at hl 0 rfl) ?_
      refine hr_callF (CC := "java/util/ArrayList$Itr") (x := ⟨"java/util/Iterator", "hasNext", "()Z"⟩) (y := yJ3_hasNext) (lw_app (lw_in _ [206, 210, 212, 81] (by decide +kernel) (by decide +kernel)) (lw_meth q214)) (by decide +kernel) (n := 0) C (C.K.1 11 _ rfl).2 (hr_C.fw5 C (hr_inT _ [208, 207, 213, 211, 209] (by decide +kernel)) (by decide)) (mtJ3_hasNext Z (hH.1.x (hr_SX hS5)) hI5 hk9) (hI5.recv C rfl) ⟨Nat.le_of_ble_eq_true rfl, Nat.le_of_ble_eq_true rfl⟩ rfl hl.1 (Nat.le_of_ble_eq_true rfl) ⟨by first | exact Nat.le_of_ble_eq_true rfl | (simp only [rmX2_find8, rmL8]; omega), by first | exact Nat.le_of_ble_eq_true rfl | (simp only [rmX2_find8, rmL8]; omega)⟩ hS5 (hr_AN hAN hS5) dX2_find_9 (rest := []) rfl
        (fun _ _ _ _ _ h => h.elim) (fun v12 H7 locs8 hp11 hF9 hS10 => ?_)
      obtain ⟨hv13, hH14⟩ := hp11; subst hv13; subst hH14
      refine W.eq (g2 := F0 m 14 ls [.int (hr_I (hr_t (decide (k < dt_k d))))]) rfl ?_
      have hkn : k = dt_k d := by omega
      refine hr_ifb_eq C (tgt := 42) dX2_find_14 (by decide) (fun hc => ?_) (fun hc => ?_)
      · refine lv_null C.x C.b dX2_find_42 ?_
        exact hr_aret (Or.inl ⟨_, rfl⟩) (Or.inl rfl) C hQ (⟨by rw [dt_ff_none (fun j hj => hno j (by omega))]; rfl, hr_SX hS10⟩) hS10 (by first | exact Nat.le_of_ble_eq_true rfl | (simp only [rmX2_find8, rmL8]; omega)) (by first | exact Nat.le_of_ble_eq_true rfl | (simp only [rmX2_find8, rmL8]; omega)) dX2_find_43
      · exact absurd hc (by simp [hkn])
    | succ r ih =>
      intro k ls H5 locs5 x9  hk hI5 hS5 hno hl
      have hk9 : k ≤ dt_k d := by omega
      refine lv_aload_n C.x C.b dX2_find_8 rfl (lv_at hl 0 rfl) ?_
      refine hr_callF (CC := "java/util/ArrayList$Itr") (x := ⟨"java/util/Iterator", "hasNext", "()Z"⟩) (y := yJ3_hasNext) (lw_app (lw_in _ [206, 210, 212, 81] (by decide +kernel) (by decide +kernel)) (lw_meth q214)) (by decide +kernel) (n := 0) C (C.K.1 11 _ rfl).2 (hr_C.fw5 C (hr_inT _ [208, 207, 213, 211, 209] (by decide +kernel)) (by decide)) (mtJ3_hasNext Z (hH.1.x (hr_SX hS5)) hI5 hk9) (hI5.recv C rfl) ⟨Nat.le_of_ble_eq_true rfl, Nat.le_of_ble_eq_true rfl⟩ rfl hl.1 (Nat.le_of_ble_eq_true rfl) ⟨by first | exact Nat.le_of_ble_eq_true rfl | (simp only [rmX2_find8, rmL8]; omega), by first | exact Nat.le_of_ble_eq_true rfl | (simp only [rmX2_find8, rmL8]; omega)⟩ hS5 (hr_AN hAN hS5) dX2_find_9 (rest := []) rfl
        (fun _ _ _ _ _ h => h.elim) (fun v20 H15 locs16 hp19 hF17 hS18 => ?_)
      obtain ⟨hv21, hH22⟩ := hp19; subst hv21; subst hH22
      refine W.eq (g2 := F0 m 14 ls [.int (hr_I (hr_t (decide (k < dt_k d))))]) rfl ?_
      have hkn : k < dt_k d := by omega
      refine hr_ifb_eq C (tgt := 42) dX2_find_14 (by decide) (fun hc => ?_) (fun hc => ?_)
      · exact absurd hc (by simp [hkn])
      · refine lv_aload_n C.x C.b dX2_find_17 rfl (lv_at hl 0 rfl) ?_
        refine hr_callF (CC := "java/util/ArrayList$Itr") (x := ⟨"java/util/Iterator", "next", "()Ljava/lang/Object;"⟩) (y := yJ3_next) (lw_app (lw_in _ [216, 219, 221, 81] (by decide +kernel) (by decide +kernel)) (lw_meth q223)) (by decide +kernel) (n := 0) C (C.K.1 11 _ rfl).2 (hr_C.fw5 C (hr_inT _ [218, 217, 222, 220, 209] (by decide +kernel)) (by decide)) (mtJ3_next Z (hH.1.x (hr_SX hS18)) hI5 hkn ((C.up hS).1)) (hI5.recv C rfl) ⟨Nat.le_of_ble_eq_true rfl, Nat.le_of_ble_eq_true rfl⟩ rfl hl.1 (Nat.le_of_ble_eq_true rfl) ⟨by first | exact Nat.le_of_ble_eq_true rfl | (simp only [rmX2_find8, rmL8]; omega), by first | exact Nat.le_of_ble_eq_true rfl | (simp only [rmX2_find8, rmL8]; omega)⟩ hS18 (fun q h => h.elim (fun e => by rw [e]; exact (Nat.le_refl _)) (fun h => hAN _ (Nat.le_trans hS18.1 h))) dX2_find_18 (rest := []) rfl
          (fun _ _ _ _ _ h => h.elim) (fun v28 H23 locs24 hp27 hF25 hS26 => ?_)
        obtain ⟨rfl, ⟨x2, hI22⟩⟩ := hp27
        refine W.eq (g2 := F0 m 23 ls [.ref (ly_ha L k)]) rfl ?_
        refine va_castS C.x C.b C.ow (C.w _ q300) (C.K.1 4 _ rfl).2 (((hH.2 k hkn).x (hr_SX hS26)).recv C rfl) dX2_find_23 ?_
        refine lv_astore_n (lv' := [(3, .ref (ly_ha L k)), (2, .ref H.size), (0, .ref a), (1, .ref t)]) C.x C.b dX2_find_26 rfl hl (by decide) rfl (fun ls hl => ?_)
        refine lv_aload_n C.x C.b dX2_find_27 rfl (lv_at hl 3 rfl) ?_
        refine lv_aload_n C.x C.b dX2_find_28 rfl (lv_at hl 0 rfl) ?_
        refine (hT k hkn _ (hr_SX hS26)) _ _ p e _ s m args below meth c _ _ _ _ _ _ ls [] _ _ _ C hl.1 (Nat.le_of_ble_eq_true rfl) ⟨Nat.le_of_ble_eq_true rfl, Nat.le_of_ble_eq_true rfl⟩ ⟨by first | exact Nat.le_of_ble_eq_true rfl | (simp only [rmX2_find8, rmL8]; omega), by first | exact Nat.le_of_ble_eq_true rfl | (simp only [rmX2_find8, rmL8]; omega)⟩ hS26 (hr_AN hAN hS26) dX2_find_29 (fun H29 locs30 hH31 hX32 hS33 => ?_)
        show W p l e rmX2_find8 s m args below meth c H29 locs30 ((0 + 1 + 2 * k) + 0 + 0 + 2) ((0 + 4 + 5 * k) + 0 + 0 + 5) Q (F0 m 34 ls [.int (hr_I (hr_t (φ k)))])
        refine hr_ifb_eq C (tgt := 39) dX2_find_34 (by decide) (fun hc => ?_) (fun hc => ?_)
        · refine lv_goto (tgt := 8) C.x C.b dX2_find_39 (by decide) ?_
          exact ih (k + 1) ls _ _ _  (by omega) (hI22.x hX32) hS33 (fun j hj => by rcases Nat.lt_succ_iff_lt_or_eq.mp hj with h9 | h9; exact hno j h9; rw [h9]; exact hc) (lv_sub hl [1, 2, 3] rfl)
        · refine lv_aload_n C.x C.b dX2_find_37 rfl (lv_at hl 0 rfl) ?_
          exact hr_aret (Or.inl ⟨_, rfl⟩) (Or.inr ⟨_, rfl⟩) C hQ (⟨by rw [dt_ff_hit hno hkn hc]; rfl, hr_SX hS33⟩) hS33 (by first | exact Nat.le_of_ble_eq_true rfl | (simp only [rmX2_find8, rmL8]; omega)) (by first | exact Nat.le_of_ble_eq_true rfl | (simp only [rmX2_find8, rmL8]; omega)) dX2_find_38
  exact lp (dt_k d) 0 ls _ _ _  (Nat.zero_add _) hI0 hS4 (fun j hj => absurd hj (Nat.not_lt_zero j)) (lv_sub hl [0, 1, 2] rfl)

abbrev rmX2_habitAt : Room := { frames := 19, cells := 42, slots := 106, locals := 3223 }
set_option maxHeartbeats 4000000 in
set_option maxRecDepth 100000 in
theorem mtX2_habitAt {l : Launch} {D : va_G} {s0 : State} (Z : hr_Z l D s0) {H : Heap} {a : Nat} {L : ly_T} {d : dt_T} (hD : hr_Dt D H a L d) (hV : dt_V d) {z : Int} (rz : hr_R z) : hr_M l s0 yX2_habitAt (ws_ yX2_habitAt cX2_habitAt 2 (Option.some (Jvm.ClassFile.FieldType.object "HabitRegistry$Habit"))) rmX2_habitAt [.ref a, .int (hr_I z)] H (hr_N H) (fun v H1 => v = some (va_rf ((dt_hat d z).map (ly_ha L))) ∧ hr_X H H1) hr_no := by
  refine hr_ofN Z (by decide) (Nat.le_of_ble_eq_true rfl) (fun _ h => Or.inr h) ?_
  intro p e s m args below meth c Q ls C hQ hin hnx hS hnm hl
  have hAN : ∀ q, H.size ≤ q → (hr_N H) q := (fun _ h => h)
  have hl : lv_has ls 2 [(0, .ref a), (1, .int (hr_I z))] := hl
  refine lv_aload_n C.x C.b dX2_habitAt_0 rfl (lv_at hl 0 rfl) ?_
  refine lv_aload_n C.x C.b dX2_habitAt_1 rfl (lv_at hl 0 rfl) ?_
  refine lv_iload_n C.x C.b dX2_habitAt_2 rfl (lv_at hl 1 rfl) ?_
  refine lm_make lga9 lgb9 lge9 lgg9 lgh9 (j := 9) (idx := 253) (x := lgx9) rfl rfl (by decide) (tys := [.object "HabitRegistry$Data", .int]) lgt9 (vals := [.ref a, .int (hr_I z)]) (rest := [.ref a]) rfl rfl (lm_n2 ⟨rfl, rfl⟩ ⟨rfl, rfl⟩) C hnm hl.1 (Nat.le_of_ble_eq_true rfl) ⟨by first | exact Nat.le_of_ble_eq_true rfl | (simp only [rmX2_habitAt]; omega), by first | exact Nat.le_of_ble_eq_true rfl | (simp only [rmX2_habitAt]; omega)⟩ hS dX2_habitAt_3 (fun H1 hLa2 hX3 hz4 hS5 => ?_)
  have hD1 := hD.x hX3
  refine hr_callV (lw_V q475 q476 q477 q77 q478) (by decide +kernel) (n := 1) C (mtX2_find8 Z (φ := fun h => (dt_ho d h).isSome && decide ((dt_rk d h : Int) = z)) hD1.1 hD1.2.2.1 hV.2.1 (fun h h9 H2 hX2 => ((lq_9 (z := hr_t ((dt_ho d h).isSome && decide ((dt_rk d h : Int) = z))) (hLa2.x hX2) (hD1.1.x hX2) (mtl_9 Z (hD1.x hX2) hV rz h9) (fun _ h => h) ⟨_, rfl⟩).mono (Nat.le_of_ble_eq_true rfl) (Nat.le_of_ble_eq_true rfl) rfl rfl))) ((hD.1.x hX3).recv C rfl) ⟨Nat.le_of_ble_eq_true rfl, Nat.le_of_ble_eq_true rfl⟩ rfl hl.1 (Nat.le_of_ble_eq_true rfl) ⟨by first | exact Nat.le_of_ble_eq_true rfl | (simp only [rmX2_habitAt]; omega), by first | exact Nat.le_of_ble_eq_true rfl | (simp only [rmX2_habitAt]; omega)⟩ hS5 (hr_AN hAN hS5) dX2_habitAt_8 (rest := []) rfl
    (fun _ _ _ _ _ h => h.elim) (fun v11 H6 locs7 hp10 hF8 hS9 => ?_)
  obtain ⟨rfl, hX9⟩ := hp10
  refine W.eq (g2 := F0 m 11 ls [va_rf ((dt_hat d z).map (ly_ha L))]) rfl ?_
  exact hr_aret (Or.inl ⟨_, rfl⟩) (hr_rv _) C hQ (⟨rfl, hr_SX hS9⟩) hS9 (by first | exact Nat.le_of_ble_eq_true rfl | (simp only [rmX2_habitAt]; omega)) (by first | exact Nat.le_of_ble_eq_true rfl | (simp only [rmX2_habitAt]; omega)) dX2_habitAt_11
