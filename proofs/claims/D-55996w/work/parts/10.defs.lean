/-! THE DATA as numbers; its picture in the heap -/
/-- people: how many, parent, alive; habits: how many, holder, kind (0 d, 1 s, 2 h), strength, entailed, practised; year, lapsed, merged, broken -/
abbrev dt_T : Type := (Nat × (Nat → Option Nat) × (Nat → Bool)) × (Nat × (Nat → Option Nat) × (Nat → Nat) × (Nat → Nat) × (Nat → Bool) × (Nat → Bool)) × (Int32 × Nat × Nat × Nat)
def dt_n (d : dt_T) : Nat := d.1.1
def dt_pa (d : dt_T) : Nat → Option Nat := d.1.2.1
def dt_al (d : dt_T) : Nat → Bool := d.1.2.2
def dt_k (d : dt_T) : Nat := d.2.1.1
def dt_ho (d : dt_T) : Nat → Option Nat := d.2.1.2.1
def dt_ki (d : dt_T) : Nat → Nat := d.2.1.2.2.1
def dt_st (d : dt_T) : Nat → Nat := d.2.1.2.2.2.1
def dt_en (d : dt_T) : Nat → Bool := d.2.1.2.2.2.2.1
def dt_pr (d : dt_T) : Nat → Bool := d.2.1.2.2.2.2.2
def dt_yr (d : dt_T) : Int32 := d.2.2.1
def dt_la (d : dt_T) : Nat := d.2.2.2.1
def dt_me (d : dt_T) : Nat := d.2.2.2.2.1
def dt_br (d : dt_T) : Nat := d.2.2.2.2.2
/-- the children of a person, by their numbers -/
def dt_kids (d : dt_T) (i : Nat) : List Nat := (List.range (dt_n d)).filter (fun j => decide (dt_pa d j = some i))
/-- how many of the first k hold -/
def dt_cnt (f : Nat → Bool) : Nat → Nat
  | 0 => 0
  | k + 1 => dt_cnt f k + (if f k then 1 else 0)
def dt_sum (f : Nat → Nat) : Nat → Nat
  | 0 => 0
  | k + 1 => dt_sum f k + f k
/-- what holds of the people -/
def dt_VP (d : dt_T) : Prop := dt_n d ≤ 16 ∧ ∀ i, i < dt_n d → ∀ p, dt_pa d i = some p → p < i
/-- what holds of the data at every call's ends -/
def dt_V (d : dt_T) : Prop := dt_VP d ∧ dt_k d ≤ 20 ∧ (∀ h, h < dt_k d → ∀ p, dt_ho d h = some p → p < dt_n d ∧ True) ∧ (∀ h, h < dt_k d → dt_ki d h < 3) ∧
  (∀ h, h < dt_k d → dt_ho d h = none → dt_st d h = 0 ∧ dt_en d h = false ∧ dt_pr d h = false) ∧ (∀ h, h < dt_k d → dt_ho d h ≠ none → 1 ≤ dt_st d h ∧ dt_st d h ≤ 9) ∧
  (∀ h g, h < dt_k d → g < dt_k d → dt_ho d h ≠ none → dt_ho d h = dt_ho d g → dt_ki d h = dt_ki d g → h = g) ∧ dt_la d + dt_me d + dt_br d + dt_cnt (fun h => (dt_ho d h).isSome) (dt_k d) = dt_k d
/-- a list's cells: object, array, capacity, changes -/
abbrev ly_L : Type := Nat × Nat × Nat × Int32
/-- an ArrayList of n objects -/
def hr_L (D : va_G) (H : Heap) (L : ly_L) (n : Nat) (f : Nat → Nat) : Prop := hr_O D H L.1 10 [.int L.2.2.2, .ref L.2.1, .int (hr_I (n : Int))] ∧ (∃ g : Nat → Option Nat, hr_A H L.2.1 (D.1 105) L.2.2.1 (hr_vq g) ∧ ∀ j, j < n → g j = some (f j)) ∧ n ≤ L.2.2.1 ∧ L.2.2.1 ≤ 60 ∧ (L.2.2.1 = 0 → L.2.1 = hr_k D 0)
/-- an object that lists hold -/
def hr_Ob (D : va_G) (H : Heap) (a : Nat) : Prop := ∃ (ci : Nat) (fs : List Value), (ci = 1 ∨ ci = 3 ∨ ci = 4 ∨ ci = 5) ∧ hr_O D H a ci fs
theorem hr_Ob.kept {D : va_G} {H H1 : Heap} {a : Nat} (h : hr_Ob D H a) (e : H1[a]? = H[a]?) : hr_Ob D H1 a := by
  obtain ⟨ci, fs, h1, h2⟩ := h
  exact ⟨ci, fs, h1, h2.kept e⟩
theorem hr_Ob.x {D : va_G} {H H1 : Heap} {a : Nat} (h : hr_Ob D H a) (hx : hr_X H H1) : hr_Ob D H1 a := by
  obtain ⟨ci, fs, h1, h2⟩ := h
  exact ⟨ci, fs, h1, h2.x hx⟩
/-- a Data's cells: people, habits, persons, their children's lists, habits, the four lambdas -/
abbrev ly_T : Type := ly_L × ly_L × (Nat → Nat) × (Nat → ly_L) × (Nat → Nat) × (Nat × Nat × Nat × Nat)
def ly_p (L : ly_T) : ly_L := L.1
def ly_h (L : ly_T) : ly_L := L.2.1
def ly_pa (L : ly_T) : Nat → Nat := L.2.2.1
def ly_ch (L : ly_T) : Nat → ly_L := L.2.2.2.1
def ly_ha (L : ly_T) : Nat → Nat := L.2.2.2.2.1
def ly_lm (L : ly_T) : Nat × Nat × Nat × Nat := L.2.2.2.2.2
def dt_ch (k : Nat) : Int := if k = 0 then 100 else if k = 1 then 115 else 104
abbrev fs_P (d : dt_T) (L : ly_T) (i : Nat) : List Value := [.int (hr_I (i : Int)), va_rf ((dt_pa d i).map (ly_pa L)), .ref (ly_ch L i).1, .int (hr_I (hr_t (dt_al d i)))]
abbrev fs_H (d : dt_T) (L : ly_T) (h : Nat) : List Value := [.int (hr_I (h : Int)), .int (hr_I (dt_ch (dt_ki d h))), .int (hr_I (dt_st d h : Int)), .int (hr_I (hr_t (dt_en d h))), .int (hr_I (hr_t (dt_pr d h))), va_rf ((dt_ho d h).map (ly_pa L))]
abbrev fs_D (d : dt_T) (L : ly_T) : List Value := [.ref (ly_p L).1, .ref (ly_h L).1, .int (dt_yr d), .int (hr_I (dt_la d : Int)), .int (hr_I (dt_me d : Int)), .int (hr_I (dt_br d : Int)), .ref (ly_lm L).1, .ref (ly_lm L).2.1, .ref (ly_lm L).2.2.1, .ref (ly_lm L).2.2.2]
/-- THE PEOPLE in the heap -/
def hr_pp (D : va_G) (H : Heap) (L : ly_T) (d : dt_T) : Prop := hr_L D H (ly_p L) (dt_n d) (ly_pa L) ∧ (∀ i, i < dt_n d → hr_O D H (ly_pa L i) 3 (fs_P d L i)) ∧ ∀ i, i < dt_n d → hr_L D H (ly_ch L i) (dt_kids d i).length (fun j => ly_pa L ((dt_kids d i).getD j 0))
/-- the habits in the heap -/
def hr_hh (D : va_G) (H : Heap) (L : ly_T) (d : dt_T) : Prop := hr_L D H (ly_h L) (dt_k d) (ly_ha L) ∧ ∀ h, h < dt_k d → hr_O D H (ly_ha L h) 4 (fs_H d L h)
theorem hr_L.x {D : va_G} {H H1 : Heap} {L : ly_L} {n : Nat} {f : Nat → Nat} (h : hr_L D H L n f) (hx : hr_X H H1) : hr_L D H1 L n f := by
  obtain ⟨h1, ⟨g, h2, h3⟩, h4⟩ := h
  exact ⟨h1.x hx, ⟨g, h2.x hx, h3⟩, h4⟩
theorem hr_pp.x {D : va_G} {H H1 : Heap} {L : ly_T} {d : dt_T} (h : hr_pp D H L d) (hx : hr_X H H1) : hr_pp D H1 L d := ⟨h.1.x hx, fun i hi => (h.2.1 i hi).x hx, fun i hi => (h.2.2 i hi).x hx⟩
theorem hr_hh.x {D : va_G} {H H1 : Heap} {L : ly_T} {d : dt_T} (h : hr_hh D H L d) (hx : hr_X H H1) : hr_hh D H1 L d := ⟨h.1.x hx, fun i hi => (h.2 i hi).x hx⟩
/-- two people are one, if their cells are -/
theorem hr_pp.inj {D : va_G} {H : Heap} {L : ly_T} {d : dt_T} (h : hr_pp D H L d) (hn : dt_n d ≤ 16) {i j : Nat} (hi : i < dt_n d) (hj : j < dt_n d) (e : ly_pa L i = ly_pa L j) : i = j := by
  have h1 := h.2.1 i hi
  have h2 := h.2.1 j hj
  rw [e] at h1
  have h3 := hr_O.same h1 h2 rfl (k := 0) (by decide)
  have h4 : (Value.int (hr_I (i : Int))) = .int (hr_I (j : Int)) := h3
  have h5 : hr_I (i : Int) = hr_I (j : Int) := by injection h4
  have := (hr_eq ⟨by omega, by omega⟩ ⟨by omega, by omega⟩).mp h5
  omega
theorem hr_nr (C : String) (r : Option Nat) : narrow (.object C) (va_rf r) = va_rf r := by cases r <;> rfl
theorem hr_fr (C : String) (r : Option Nat) : fits (.object C) (va_rf r) = true := by cases r <;> rfl
theorem hr_AN {A : Nat → Prop} {H0 H : Heap} {locs : List Loc} (hAN : ∀ q, H0.size ≤ q → A q) (hS : va_S A H0 H locs) : ∀ q, hr_N H q → A q := fun q h => hAN q (Nat.le_trans hS.1 h)
section HBR
variable {l : Launch} {D : va_G} {s0 : State} {own : String} {ret : Option FieldType} {nL : Nat}
variable {p : Program} {e : Env} {R : Room} {s : State} {m : MethodId} {args : Array Value} {below : List Frame} {meth : Method} {c : Code} {H : Heap} {locs : List Loc} {cells slots : Nat} {Q : State → Prop}
variable {cc : ByteArray} {pc : Nat} {ls : Array Slot} {rest : List Value} {A : Nat → Prop} {H0 : Heap} {a b : Int} {off : Int} {tgt : Nat}
theorem hr_astore_no (hexec : p.tables.exec = Jvm.exec) (hb : c.code = cc) {k : Fin 4} {i nL : Nat} {r : Option Nat} {lv lv' : List (Nat × Value)} (hdg : decode cc pc = .ok (.astore_n k, 1)) (hi : (k : Nat) = i) (h : lv_has ls nL lv) (hn : i < nL) (hl : (i, va_rf r) :: lv.filter (fun q => !(q.1 == i) && !(q.1 + 1 == i && q.2.category == 2)) = lv') (kk : ∀ ls' : Array Slot, lv_has ls' nL lv' → W p l e R s m args below meth c H locs cells slots Q (F0 m (pc + 1) ls' rest)) : W p l e R s m args below meth c H locs cells slots Q (F0 m pc ls (va_rf r :: rest)) := by
  cases r with
  | none => exact lv_astore_nN hexec hb hdg hi h hn hl kk
  | some x => exact lv_astore_n hexec hb hdg hi h hn hl kk
theorem hr_aload_no (hexec : p.tables.exec = Jvm.exec) (hb : c.code = cc) {k : Fin 4} {i : Nat} {r : Option Nat} (hdg : decode cc pc = .ok (.aload_n k, 1)) (hi : (k : Nat) = i) (hl : ls[i]? = some (.val (va_rf r))) (kk : W p l e R s m args below meth c H locs cells slots Q (F0 m (pc + 1) ls (va_rf r :: rest))) : W p l e R s m args below meth c H locs cells slots Q (F0 m pc ls rest) := by
  cases r with
  | none => exact lv_aload_nN hexec hb hdg hi hl kk
  | some x => exact lv_aload_n hexec hb hdg hi hl kk
theorem hr_astoreo (hexec : p.tables.exec = Jvm.exec) (hb : c.code = cc) {i nL : Nat} {r : Option Nat} {lv lv' : List (Nat × Value)} (hdg : decode cc pc = .ok (.astore i, 2)) (h : lv_has ls nL lv) (hn : i < nL) (hl : (i, va_rf r) :: lv.filter (fun q => !(q.1 == i) && !(q.1 + 1 == i && q.2.category == 2)) = lv') (kk : ∀ ls' : Array Slot, lv_has ls' nL lv' → W p l e R s m args below meth c H locs cells slots Q (F0 m (pc + 2) ls' rest)) : W p l e R s m args below meth c H locs cells slots Q (F0 m pc ls (va_rf r :: rest)) := by
  cases r with
  | none => exact lv_astoreN hexec hb hdg h hn hl kk
  | some x => exact lv_astore hexec hb hdg h hn hl kk
theorem hr_aloado (hexec : p.tables.exec = Jvm.exec) (hb : c.code = cc) {i : Nat} {r : Option Nat} (hdg : decode cc pc = .ok (.aload i, 2)) (hl : ls[i]? = some (.val (va_rf r))) (kk : W p l e R s m args below meth c H locs cells slots Q (F0 m (pc + 2) ls (va_rf r :: rest))) : W p l e R s m args below meth c H locs cells slots Q (F0 m pc ls rest) := by
  cases r with
  | none => exact lv_aloadN hexec hb hdg hl kk
  | some x => exact lv_aload hexec hb hdg hl kk
theorem hr_mmax {index : Nat} (hl : Cond.methodLink own index Lib.Math.max.name ∈ lw_all) (C : hr_C l D s0 H0 A p s m args meth c cc nL own ret) (hls : ls.size = nL) (ra : hr_R a) (rb : hr_R b) (hframes : 1 ≤ R.frames) (hlocals : (rest.map fun v => v.category).sum + 13 ≤ R.locals) (hc : cells ≤ R.cells) (hs : slots ≤ R.slots) (d : decode cc pc = .ok (.invokestatic index, 3)) (kk : W p l e R s m args below meth c H locs cells slots Q (F0 m (pc + 3) ls (.int (hr_I (if a < b then b else a)) :: rest))) : W p l e R s m args below meth c H locs cells slots Q (F0 m pc ls (.int (hr_I b) :: .int (hr_I a) :: rest)) := by
  refine va_mmax C.x C.b (C.ml.trans hls.symm) C.ow (C.w _ hl) (C.w _ q672) (C.w _ q95) (C.w _ (show Cond.code Lib.Math.max.name Lib.Math.max.code 2 (some .int) ∈ lw_all from q673)) hframes hlocals hc hs d ?_
  have e1 : (if hr_I a < hr_I b then hr_I b else hr_I a) = hr_I (if a < b then b else a) := by
    by_cases h : a < b
    · rw [if_pos h, if_pos ((hr_lt ra rb).mpr h)]
    · rw [if_neg h, if_neg (fun z => h ((hr_lt ra rb).mp z))]
  rw [e1]
  exact kk
theorem hr_mmin {index : Nat} (hl : Cond.methodLink own index Lib.Math.min.name ∈ lw_all) (C : hr_C l D s0 H0 A p s m args meth c cc nL own ret) (hls : ls.size = nL) (ra : hr_R a) (rb : hr_R b) (hframes : 1 ≤ R.frames) (hlocals : (rest.map fun v => v.category).sum + 13 ≤ R.locals) (hc : cells ≤ R.cells) (hs : slots ≤ R.slots) (d : decode cc pc = .ok (.invokestatic index, 3)) (kk : W p l e R s m args below meth c H locs cells slots Q (F0 m (pc + 3) ls (.int (hr_I (if b < a then b else a)) :: rest))) : W p l e R s m args below meth c H locs cells slots Q (F0 m pc ls (.int (hr_I b) :: .int (hr_I a) :: rest)) := by
  refine va_mmin C.x C.b (C.ml.trans hls.symm) C.ow (C.w _ hl) (C.w _ q714) (C.w _ q95) (C.w _ (show Cond.code Lib.Math.min.name Lib.Math.min.code 2 (some .int) ∈ lw_all from q715)) hframes hlocals hc hs d ?_
  have e1 : (if hr_I b < hr_I a then hr_I b else hr_I a) = hr_I (if b < a then b else a) := by
    by_cases h : b < a
    · rw [if_pos h, if_pos ((hr_lt rb ra).mpr h)]
    · rw [if_neg h, if_neg (fun z => h ((hr_lt rb ra).mp z))]
  rw [e1]
  exact kk
theorem hr_ishr1 {n : Nat} (C : hr_C l D s0 H0 A p s m args meth c cc nL own ret) (hn : n < 2 ^ 31) (d : decode cc pc = .ok (.ishr, 1)) (kk : W p l e R s m args below meth c H locs cells slots Q (F0 m (pc + 1) ls (.int (hr_I ((n / 2 : Nat) : Int)) :: rest))) : W p l e R s m args below meth c H locs cells slots Q (F0 m pc ls (.int (hr_I 1) :: .int (hr_I (n : Int)) :: rest)) := by
  refine lv_ishr C.x C.b d ?_
  have e1 : (hr_I (n : Int)) >>> (hr_I 1 &&& 31) = hr_I ((n / 2 : Nat) : Int) := by
    have := pk_shrN hn (hr_I 1 &&& 31) 1 (by decide)
    rw [show hr_I (n : Int) = nI n from (hr_n n).symm, this]
    exact hr_n _
  rw [e1]
  exact kk
theorem hr_ldci {index : Nat} {v : Int32} {z : Int} (hc : Cond.constant own index v ∈ lw_all) (hv : v = hr_I z) (C : hr_C l D s0 H0 A p s m args meth c cc nL own ret) (d : decode cc pc = .ok (.ldc index, 2)) (kk : W p l e R s m args below meth c H locs cells slots Q (F0 m (pc + 2) ls (.int (hr_I z) :: rest))) : W p l e R s m args below meth c H locs cells slots Q (F0 m pc ls rest) := lv_ldc C.x C.b C.ow (C.w _ hc) d (hv ▸ kk)
theorem hr_icmp_lt (C : hr_C l D s0 H0 A p s m args meth c cc nL own ret) (d : decode cc pc = .ok (.if_icmp .lt off, 3)) (ht : (pc : Int) + off = (tgt : Int)) (ra : hr_R a) (rb : hr_R b) (kt : a < b → W p l e R s m args below meth c H locs cells slots Q (F0 m tgt ls rest)) (kf : ¬ a < b → W p l e R s m args below meth c H locs cells slots Q (F0 m (pc + 3) ls rest)) : W p l e R s m args below meth c H locs cells slots Q (F0 m pc ls (.int (hr_I b) :: .int (hr_I a) :: rest)) := lv_icmp_lt C.x C.b d ht (fun h => kt ((hr_lt ra rb).mp h)) (fun h => kf (fun z => h ((hr_lt ra rb).mpr z)))
theorem hr_icmp_ge (C : hr_C l D s0 H0 A p s m args meth c cc nL own ret) (d : decode cc pc = .ok (.if_icmp .ge off, 3)) (ht : (pc : Int) + off = (tgt : Int)) (ra : hr_R a) (rb : hr_R b) (kt : b ≤ a → W p l e R s m args below meth c H locs cells slots Q (F0 m tgt ls rest)) (kf : ¬ b ≤ a → W p l e R s m args below meth c H locs cells slots Q (F0 m (pc + 3) ls rest)) : W p l e R s m args below meth c H locs cells slots Q (F0 m pc ls (.int (hr_I b) :: .int (hr_I a) :: rest)) := lv_icmp_ge C.x C.b d ht (fun h => kt ((hr_le rb ra).mp h)) (fun h => kf (fun z => h ((hr_le rb ra).mpr z)))
theorem hr_icmp_gt (C : hr_C l D s0 H0 A p s m args meth c cc nL own ret) (d : decode cc pc = .ok (.if_icmp .gt off, 3)) (ht : (pc : Int) + off = (tgt : Int)) (ra : hr_R a) (rb : hr_R b) (kt : b < a → W p l e R s m args below meth c H locs cells slots Q (F0 m tgt ls rest)) (kf : ¬ b < a → W p l e R s m args below meth c H locs cells slots Q (F0 m (pc + 3) ls rest)) : W p l e R s m args below meth c H locs cells slots Q (F0 m pc ls (.int (hr_I b) :: .int (hr_I a) :: rest)) := lv_icmp_gt C.x C.b d ht (fun h => kt ((hr_lt rb ra).mp h)) (fun h => kf (fun z => h ((hr_lt rb ra).mpr z)))
theorem hr_icmp_le (C : hr_C l D s0 H0 A p s m args meth c cc nL own ret) (d : decode cc pc = .ok (.if_icmp .le off, 3)) (ht : (pc : Int) + off = (tgt : Int)) (ra : hr_R a) (rb : hr_R b) (kt : a ≤ b → W p l e R s m args below meth c H locs cells slots Q (F0 m tgt ls rest)) (kf : ¬ a ≤ b → W p l e R s m args below meth c H locs cells slots Q (F0 m (pc + 3) ls rest)) : W p l e R s m args below meth c H locs cells slots Q (F0 m pc ls (.int (hr_I b) :: .int (hr_I a) :: rest)) := lv_icmp_le C.x C.b d ht (fun h => kt ((hr_le ra rb).mp h)) (fun h => kf (fun z => h ((hr_le ra rb).mpr z)))
theorem hr_icmp_eq (C : hr_C l D s0 H0 A p s m args meth c cc nL own ret) (d : decode cc pc = .ok (.if_icmp .eq off, 3)) (ht : (pc : Int) + off = (tgt : Int)) (ra : hr_R a) (rb : hr_R b) (kt : a = b → W p l e R s m args below meth c H locs cells slots Q (F0 m tgt ls rest)) (kf : ¬ a = b → W p l e R s m args below meth c H locs cells slots Q (F0 m (pc + 3) ls rest)) : W p l e R s m args below meth c H locs cells slots Q (F0 m pc ls (.int (hr_I b) :: .int (hr_I a) :: rest)) := lv_icmp_eq C.x C.b d ht (fun h => kt ((hr_eq ra rb).mp h)) (fun h => kf (fun z => h ((hr_eq ra rb).mpr z)))
theorem hr_icmp_ne (C : hr_C l D s0 H0 A p s m args meth c cc nL own ret) (d : decode cc pc = .ok (.if_icmp .ne off, 3)) (ht : (pc : Int) + off = (tgt : Int)) (ra : hr_R a) (rb : hr_R b) (kt : ¬ a = b → W p l e R s m args below meth c H locs cells slots Q (F0 m tgt ls rest)) (kf : a = b → W p l e R s m args below meth c H locs cells slots Q (F0 m (pc + 3) ls rest)) : W p l e R s m args below meth c H locs cells slots Q (F0 m pc ls (.int (hr_I b) :: .int (hr_I a) :: rest)) := lv_icmp_ne C.x C.b d ht (fun h => kt (fun z => h ((hr_eq ra rb).mpr z))) (fun h => kf ((hr_eq ra rb).mp h))
theorem hr_if_lt (C : hr_C l D s0 H0 A p s m args meth c cc nL own ret) (d : decode cc pc = .ok (.ifCond .lt off, 3)) (ht : (pc : Int) + off = (tgt : Int)) (ra : hr_R a) (kt : a < 0 → W p l e R s m args below meth c H locs cells slots Q (F0 m tgt ls rest)) (kf : ¬ a < 0 → W p l e R s m args below meth c H locs cells slots Q (F0 m (pc + 3) ls rest)) : W p l e R s m args below meth c H locs cells slots Q (F0 m pc ls (.int (hr_I a) :: rest)) := by
  have rz : hr_R 0 := ⟨by omega, by omega⟩
  exact lv_if_lt C.x C.b d ht (fun h => kt ((hr_lt ra rz).mp (by rw [hr_0]; exact h))) (fun h => kf (fun z => h (by rw [← hr_0]; exact (hr_lt ra rz).mpr z)))
theorem hr_if_ge (C : hr_C l D s0 H0 A p s m args meth c cc nL own ret) (d : decode cc pc = .ok (.ifCond .ge off, 3)) (ht : (pc : Int) + off = (tgt : Int)) (ra : hr_R a) (kt : 0 ≤ a → W p l e R s m args below meth c H locs cells slots Q (F0 m tgt ls rest)) (kf : ¬ 0 ≤ a → W p l e R s m args below meth c H locs cells slots Q (F0 m (pc + 3) ls rest)) : W p l e R s m args below meth c H locs cells slots Q (F0 m pc ls (.int (hr_I a) :: rest)) := by
  have rz : hr_R 0 := ⟨by omega, by omega⟩
  exact lv_if_ge C.x C.b d ht (fun h => kt ((hr_le rz ra).mp (by rw [hr_0]; exact h))) (fun h => kf (fun z => h (by rw [← hr_0]; exact (hr_le rz ra).mpr z)))
theorem hr_if_gt (C : hr_C l D s0 H0 A p s m args meth c cc nL own ret) (d : decode cc pc = .ok (.ifCond .gt off, 3)) (ht : (pc : Int) + off = (tgt : Int)) (ra : hr_R a) (kt : 0 < a → W p l e R s m args below meth c H locs cells slots Q (F0 m tgt ls rest)) (kf : ¬ 0 < a → W p l e R s m args below meth c H locs cells slots Q (F0 m (pc + 3) ls rest)) : W p l e R s m args below meth c H locs cells slots Q (F0 m pc ls (.int (hr_I a) :: rest)) := by
  have rz : hr_R 0 := ⟨by omega, by omega⟩
  exact lv_if_gt C.x C.b d ht (fun h => kt ((hr_lt rz ra).mp (by rw [hr_0]; exact h))) (fun h => kf (fun z => h (by rw [← hr_0]; exact (hr_lt rz ra).mpr z)))
theorem hr_if_le (C : hr_C l D s0 H0 A p s m args meth c cc nL own ret) (d : decode cc pc = .ok (.ifCond .le off, 3)) (ht : (pc : Int) + off = (tgt : Int)) (ra : hr_R a) (kt : a ≤ 0 → W p l e R s m args below meth c H locs cells slots Q (F0 m tgt ls rest)) (kf : ¬ a ≤ 0 → W p l e R s m args below meth c H locs cells slots Q (F0 m (pc + 3) ls rest)) : W p l e R s m args below meth c H locs cells slots Q (F0 m pc ls (.int (hr_I a) :: rest)) := by
  have rz : hr_R 0 := ⟨by omega, by omega⟩
  exact lv_if_le C.x C.b d ht (fun h => kt ((hr_le ra rz).mp (by rw [hr_0]; exact h))) (fun h => kf (fun z => h (by rw [← hr_0]; exact (hr_le ra rz).mpr z)))
theorem hr_if_eq (C : hr_C l D s0 H0 A p s m args meth c cc nL own ret) (d : decode cc pc = .ok (.ifCond .eq off, 3)) (ht : (pc : Int) + off = (tgt : Int)) (ra : hr_R a) (kt : a = 0 → W p l e R s m args below meth c H locs cells slots Q (F0 m tgt ls rest)) (kf : ¬ a = 0 → W p l e R s m args below meth c H locs cells slots Q (F0 m (pc + 3) ls rest)) : W p l e R s m args below meth c H locs cells slots Q (F0 m pc ls (.int (hr_I a) :: rest)) := by
  have rz : hr_R 0 := ⟨by omega, by omega⟩
  exact lv_if_eq C.x C.b d ht (fun h => kt ((hr_eq ra rz).mp (by rw [hr_0]; exact h))) (fun h => kf (fun z => h (by rw [← hr_0]; exact (hr_eq ra rz).mpr z)))
theorem hr_if_ne (C : hr_C l D s0 H0 A p s m args meth c cc nL own ret) (d : decode cc pc = .ok (.ifCond .ne off, 3)) (ht : (pc : Int) + off = (tgt : Int)) (ra : hr_R a) (kt : ¬ a = 0 → W p l e R s m args below meth c H locs cells slots Q (F0 m tgt ls rest)) (kf : a = 0 → W p l e R s m args below meth c H locs cells slots Q (F0 m (pc + 3) ls rest)) : W p l e R s m args below meth c H locs cells slots Q (F0 m pc ls (.int (hr_I a) :: rest)) := by
  have rz : hr_R 0 := ⟨by omega, by omega⟩
  exact lv_if_ne C.x C.b d ht (fun h => kt (fun z => h (by rw [← hr_0]; exact (hr_eq ra rz).mpr z))) (fun h => kf ((hr_eq ra rz).mp (by rw [hr_0]; exact h)))
theorem hr_ifb_eq {t : Bool} (C : hr_C l D s0 H0 A p s m args meth c cc nL own ret) (d : decode cc pc = .ok (.ifCond .eq off, 3)) (ht : (pc : Int) + off = (tgt : Int)) (kt : t = false → W p l e R s m args below meth c H locs cells slots Q (F0 m tgt ls rest)) (kf : t = true → W p l e R s m args below meth c H locs cells slots Q (F0 m (pc + 3) ls rest)) : W p l e R s m args below meth c H locs cells slots Q (F0 m pc ls (.int (hr_I (hr_t t)) :: rest)) := hr_if_eq C d ht (hr_tR t) (fun h => kt (hr_t0.mp h)) (fun h => kf (by cases t; exact absurd rfl h; rfl))
theorem hr_ifb_ne {t : Bool} (C : hr_C l D s0 H0 A p s m args meth c cc nL own ret) (d : decode cc pc = .ok (.ifCond .ne off, 3)) (ht : (pc : Int) + off = (tgt : Int)) (kt : t = true → W p l e R s m args below meth c H locs cells slots Q (F0 m tgt ls rest)) (kf : t = false → W p l e R s m args below meth c H locs cells slots Q (F0 m (pc + 3) ls rest)) : W p l e R s m args below meth c H locs cells slots Q (F0 m pc ls (.int (hr_I (hr_t t)) :: rest)) := hr_if_ne C d ht (hr_tR t) (fun h => kt (by cases t; exact absurd rfl h; rfl)) (fun h => kf (hr_t0.mp h))
theorem hr_Ob.any {a : Nat} (C : hr_C l D s0 H0 A p s m args meth c cc nL own ret) (h : hr_Ob D H a) : hr_Any s H a := by
  obtain ⟨ci, fs, h1, h2⟩ := h
  rcases h1 with rfl | rfl | rfl | rfl
  · exact h2.any C rfl q2443
  · exact h2.any C rfl q2449
  · exact h2.any C rfl q2450
  · exact h2.any C rfl q2451
theorem hr_Ob.ne {a b : Nat} {fs : List Value} (C : hr_C l D s0 H0 A p s m args meth c cc nL own ret) (h : hr_Ob D H a) (h2 : hr_O D H b 10 fs) : a ≠ b := by
  obtain ⟨ci, gs, h1, h3⟩ := h
  rcases h1 with rfl | rfl | rfl | rfl
  · exact h3.ne h2 (C.dd 1 10 rfl rfl (by decide))
  · exact h3.ne h2 (C.dd 3 10 rfl rfl (by decide))
  · exact h3.ne h2 (C.dd 4 10 rfl rfl (by decide))
  · exact h3.ne h2 (C.dd 5 10 rfl rfl (by decide))
theorem hr_Ob.neA {a b n : Nat} {f : Nat → Value} (C : hr_C l D s0 H0 A p s m args meth c cc nL own ret) (h : hr_Ob D H a) (h2 : hr_A H b (D.1 105) n f) : a ≠ b := by
  obtain ⟨ci, gs, h1, h3⟩ := h
  rcases h1 with rfl | rfl | rfl | rfl
  · exact h3.neA h2 (C.do 1 rfl (by decide))
  · exact h3.neA h2 (C.do 3 rfl (by decide))
  · exact h3.neA h2 (C.do 4 rfl (by decide))
  · exact h3.neA h2 (C.do 5 rfl (by decide))
theorem hr_Any_f {a b : Nat} {H1 : Heap} (hF : hr_F (fun q => q = b ∨ H.size ≤ q) H H1) (C : hr_C l D s0 H0 A p s m args meth c cc nL own ret) (h : hr_Any s H a) (ha : a < H.size) (hb : a ≠ b) : hr_Any s H1 a := by
  obtain ⟨cell, h1, h2⟩ := h
  exact ⟨cell, by rw [hF.2 a ha (fun z => z.elim hb (fun z => by omega))]; exact h1, h2⟩
theorem hr_nullo {r : Option Nat} (C : hr_C l D s0 H0 A p s m args meth c cc nL own ret) (d : decode cc pc = .ok (.ifnull off, 3)) (ht : (pc : Int) + off = (tgt : Int)) (kt : r = none → W p l e R s m args below meth c H locs cells slots Q (F0 m tgt ls rest)) (kf : ∀ x, r = some x → W p l e R s m args below meth c H locs cells slots Q (F0 m (pc + 3) ls rest)) : W p l e R s m args below meth c H locs cells slots Q (F0 m pc ls (va_rf r :: rest)) := by
  cases r with
  | none => exact lv_ifnullN C.x C.b d ht (kt rfl)
  | some x => exact lv_ifnull C.x C.b d (kf x rfl)
theorem hr_nonnullo {r : Option Nat} (C : hr_C l D s0 H0 A p s m args meth c cc nL own ret) (d : decode cc pc = .ok (.ifnonnull off, 3)) (ht : (pc : Int) + off = (tgt : Int)) (kt : ∀ x, r = some x → W p l e R s m args below meth c H locs cells slots Q (F0 m tgt ls rest)) (kf : r = none → W p l e R s m args below meth c H locs cells slots Q (F0 m (pc + 3) ls rest)) : W p l e R s m args below meth c H locs cells slots Q (F0 m pc ls (va_rf r :: rest)) := by
  cases r with
  | none => exact lv_ifnonnullN C.x C.b d (kf rfl)
  | some x => exact lv_ifnonnull C.x C.b d ht (kt x rfl)
theorem hr_acmp_eq {x y : Option Nat} (C : hr_C l D s0 H0 A p s m args meth c cc nL own ret) (d : decode cc pc = .ok (.if_acmp .eq off, 3)) (ht : (pc : Int) + off = (tgt : Int)) (kt : x = y → W p l e R s m args below meth c H locs cells slots Q (F0 m tgt ls rest)) (kf : ¬ x = y → W p l e R s m args below meth c H locs cells slots Q (F0 m (pc + 3) ls rest)) : W p l e R s m args below meth c H locs cells slots Q (F0 m pc ls (va_rf y :: va_rf x :: rest)) := lv_acmp_eq C.x C.b d ht kt kf
theorem hr_acmp_ne {x y : Option Nat} (C : hr_C l D s0 H0 A p s m args meth c cc nL own ret) (d : decode cc pc = .ok (.if_acmp .ne off, 3)) (ht : (pc : Int) + off = (tgt : Int)) (kt : ¬ x = y → W p l e R s m args below meth c H locs cells slots Q (F0 m tgt ls rest)) (kf : x = y → W p l e R s m args below meth c H locs cells slots Q (F0 m (pc + 3) ls rest)) : W p l e R s m args below meth c H locs cells slots Q (F0 m pc ls (va_rf y :: va_rf x :: rest)) := lv_acmp_ne C.x C.b d ht kt kf
end HBR
