/-! LAMBDAS: what the made classes are -/
set_option maxRecDepth 100000
theorem lm_made {σ : Lambda.Shape} {nm : String} {DF : ClassFile} {fw : Method} {laid : Array Field × Array FieldType × Array FieldType} (file_is : σ.file nm = some DF) (second_is : ∀ ms, layoutMethods DF = some ms → ms[1]? = some fw) (laid_is : layoutFields DF 0 = some laid)
    {cc : ByteArray} {nL : Nat} {ret : Option FieldType} (fc : (fw.code.map fun c => (c.code.data, c.maxLocals)) = some (cc.data, nL)) (ff : (fw.accessFlags, fw.sig.returnType) = (0x0001, ret))
    {e : Setting} {vm : Vm} {d c : ClassId} {dk : Class} (hd : vm.classes[d]? = some dk) (hname : dk.name = nm) (h : Lambda.isMade e vm d σ c = true)
    (hO : ∀ o ok, vm.findClass "java/lang/Object" = some o → vm.classes[o]? = some ok → ok.instanceTypes.size = 0) :
    ∃ (k tk : Class) (file : ClassFile) (methk : Method) (ck : Code) (tc : ClassId) (t : MethodId),
      vm.classes[c]? = some k ∧ k.name = nm ++ "$$Lambda" ∧ k.cf = some file ∧ file.constantPool = DF.constantPool ∧
      vm.method? ⟨c, 1⟩ = some methk ∧ methk.code = some ck ∧ ck.code = cc ∧ ck.maxLocals = nL ∧ methk.locks = false ∧ methk.accessFlags = 0x0001 ∧ methk.sig.returnType = ret ∧
      vm.findClass σ.implClass = some tc ∧ vm.classes[tc]? = some tk ∧ tk.isInterface = σ.implItf ∧ ((methodIn tc σ.implName σ.implDesc.toString tk.isInterface none).ask e vm).1 = .ok t ∧
      (∀ (i : Nat) x, (Lambda.resolvedOf e vm DF laid.1 c)[i]? = some (some x) → k.resolved[i]? = some (some x)) ∧ (∀ (i : Nat) f, laid.1[i]? = some f → k.fields[i]? = some f) ∧ k.instanceTypes = laid.2.1 ∧ k.kind = .ordinary := by
  obtain ⟨dk', k, ok, tk, file, cf, object, iface, toy, lay, methods, target, found, hd', hk, hfile, hcf, hobj, -, hok, hlay, hms, ht, htk, hg, -, hrec, -, -, -, hitf, hpool, hmeth, hfields, hits, hres, -⟩ := Lambda.isMade_spec h
  cases hd.symm.trans hd'
  rw [hname, file_is] at hcf
  cases hcf
  rw [hO object ok hobj hok, laid_is] at hlay
  cases hlay
  obtain ⟨b, hb, hsame⟩ := hmeth 1 fw (second_is methods hms)
  simp only [Lambda.sameMethod, Bool.and_eq_true, decide_eq_true_eq] at hsame
  obtain ⟨⟨hn, -, hsig, hfl⟩, hcode⟩ := hsame
  simp only [Prod.mk.injEq] at ff
  cases hfc : fw.code with
  | none => rw [hfc] at fc; cases fc
  | some x =>
    cases hbc : b.code with
    | none => simp [hfc, hbc] at hcode
    | some y =>
      simp only [hfc, hbc, Bool.and_eq_true, decide_eq_true_eq] at hcode
      simp only [hfc, Option.map_some, Option.some.injEq, Prod.mk.injEq] at fc
      refine ⟨k, tk, file, b, y, toy, target, hk, by rw [hrec.1, hname], hfile, hpool.2.1, by simp [Vm.method?, hk, hb], hbc, ?_, by rw [← hcode.1.1.1.1.2.1]; exact fc.2, ?_, by rw [← hfl]; exact ff.1, by rw [← hsig]; exact ff.2, ht, htk, hitf, hg, hres, hfields, ?_, hrec.2.1⟩
      · rw [← hcode.1.1.1.1.2.2]
        exact ByteArray.ext fc.1
      · simp [Method.locks, Method.isSynchronized, ← hfl, ff.1, hasFlag, Acc.synchronized]
      · rw [hits.1]
        have h0 : ok.instanceTypes = #[] := Array.eq_empty_of_size_eq_zero (hO object ok hobj hok)
        rw [h0]; simp

/-! the site of lambda$new$0 -/
def lgD0 : ClassFile := (lg0.file "HabitRegistry$Data").getD { minorVersion := 0, majorVersion := 0, constantPool := #[], accessFlags := 0, thisClass := 0, superClass := 0, interfaces := #[], fields := #[], methods := #[], attributes := #[] }
def lgf0 : Method := ((layoutMethods lgD0).bind (·[1]?)).getD default
def lgl0 : Array Field × Array FieldType × Array FieldType := (layoutFields lgD0 0).getD (#[], #[], #[])
def lgc0 : ByteArray := ⟨#[0x2b, 0xb8, 0x00, 0x11, 0xac]⟩
theorem lga0 : lg0.file "HabitRegistry$Data" = some lgD0 := by
  have h : (lg0.file "HabitRegistry$Data").isSome = true := by decide +kernel
  obtain ⟨x, hx⟩ := Option.isSome_iff_exists.mp h
  simp [lgD0, hx]
theorem lgb0 : ∀ ms, layoutMethods lgD0 = some ms → ms[1]? = some lgf0 := by
  intro ms hms
  have h : ((layoutMethods lgD0).bind (·[1]?)).isSome = true := by decide +kernel
  obtain ⟨x, hx⟩ := Option.isSome_iff_exists.mp h
  have hf : lgf0 = x := by simp [lgf0, hx]
  rw [hms] at hx
  rw [hf]
  exact hx
theorem lge0 : layoutFields lgD0 0 = some lgl0 := by
  have h : (layoutFields lgD0 0).isSome = true := by decide +kernel
  obtain ⟨x, hx⟩ := Option.isSome_iff_exists.mp h
  simp [lgl0, hx]
theorem lgg0 : (lgf0.code.map fun c => (c.code.data, c.maxLocals)) = some (lgc0.data, 2) := by decide +kernel
theorem lgh0 : (lgf0.accessFlags, lgf0.sig.returnType) = (0x0001, some FieldType.boolean) := by decide +kernel
theorem lgm0 : lgD0.constantPool[17]? = some (.methodref 14 16) ∧ lgD0.constantPool.className? 14 = some "HabitRegistry$Data" ∧ lgD0.constantPool.nameAndType? 16 = some ("lambda$new$0", "(LHabitRegistry$Habit;)Z") := by decide +kernel
theorem lgn0 : lgD0.constantPool[14]? = some (.class_ 13) ∧ lgD0.constantPool.string? 13 = some "HabitRegistry$Data" ∧ 14 ≠ lgD0.thisClass := by decide +kernel
theorem lgt0 : lgl0.2.1 = #[] := by decide +kernel
/-! the site of lambda$new$1 -/
def lgD1 : ClassFile := (lg1.file "HabitRegistry$Data").getD { minorVersion := 0, majorVersion := 0, constantPool := #[], accessFlags := 0, thisClass := 0, superClass := 0, interfaces := #[], fields := #[], methods := #[], attributes := #[] }
def lgf1 : Method := ((layoutMethods lgD1).bind (·[1]?)).getD default
def lgl1 : Array Field × Array FieldType × Array FieldType := (layoutFields lgD1 0).getD (#[], #[], #[])
def lgc1 : ByteArray := ⟨#[0x2b, 0xb8, 0x00, 0x11, 0xac]⟩
theorem lga1 : lg1.file "HabitRegistry$Data" = some lgD1 := by
  have h : (lg1.file "HabitRegistry$Data").isSome = true := by decide +kernel
  obtain ⟨x, hx⟩ := Option.isSome_iff_exists.mp h
  simp [lgD1, hx]
theorem lgb1 : ∀ ms, layoutMethods lgD1 = some ms → ms[1]? = some lgf1 := by
  intro ms hms
  have h : ((layoutMethods lgD1).bind (·[1]?)).isSome = true := by decide +kernel
  obtain ⟨x, hx⟩ := Option.isSome_iff_exists.mp h
  have hf : lgf1 = x := by simp [lgf1, hx]
  rw [hms] at hx
  rw [hf]
  exact hx
theorem lge1 : layoutFields lgD1 0 = some lgl1 := by
  have h : (layoutFields lgD1 0).isSome = true := by decide +kernel
  obtain ⟨x, hx⟩ := Option.isSome_iff_exists.mp h
  simp [lgl1, hx]
theorem lgg1 : (lgf1.code.map fun c => (c.code.data, c.maxLocals)) = some (lgc1.data, 2) := by decide +kernel
theorem lgh1 : (lgf1.accessFlags, lgf1.sig.returnType) = (0x0001, some FieldType.int) := by decide +kernel
theorem lgm1 : lgD1.constantPool[17]? = some (.methodref 14 16) ∧ lgD1.constantPool.className? 14 = some "HabitRegistry$Data" ∧ lgD1.constantPool.nameAndType? 16 = some ("lambda$new$1", "(LHabitRegistry$Habit;)I") := by decide +kernel
theorem lgn1 : lgD1.constantPool[14]? = some (.class_ 13) ∧ lgD1.constantPool.string? 13 = some "HabitRegistry$Data" ∧ 14 ≠ lgD1.thisClass := by decide +kernel
theorem lgt1 : lgl1.2.1 = #[] := by decide +kernel
/-! the site of lambda$new$2 -/
def lgD2 : ClassFile := (lg2.file "HabitRegistry$Data").getD { minorVersion := 0, majorVersion := 0, constantPool := #[], accessFlags := 0, thisClass := 0, superClass := 0, interfaces := #[], fields := #[], methods := #[], attributes := #[] }
def lgf2 : Method := ((layoutMethods lgD2).bind (·[1]?)).getD default
def lgl2 : Array Field × Array FieldType × Array FieldType := (layoutFields lgD2 0).getD (#[], #[], #[])
def lgc2 : ByteArray := ⟨#[0x2b, 0xb8, 0x00, 0x11, 0xac]⟩
theorem lga2 : lg2.file "HabitRegistry$Data" = some lgD2 := by
  have h : (lg2.file "HabitRegistry$Data").isSome = true := by decide +kernel
  obtain ⟨x, hx⟩ := Option.isSome_iff_exists.mp h
  simp [lgD2, hx]
theorem lgb2 : ∀ ms, layoutMethods lgD2 = some ms → ms[1]? = some lgf2 := by
  intro ms hms
  have h : ((layoutMethods lgD2).bind (·[1]?)).isSome = true := by decide +kernel
  obtain ⟨x, hx⟩ := Option.isSome_iff_exists.mp h
  have hf : lgf2 = x := by simp [lgf2, hx]
  rw [hms] at hx
  rw [hf]
  exact hx
theorem lge2 : layoutFields lgD2 0 = some lgl2 := by
  have h : (layoutFields lgD2 0).isSome = true := by decide +kernel
  obtain ⟨x, hx⟩ := Option.isSome_iff_exists.mp h
  simp [lgl2, hx]
theorem lgg2 : (lgf2.code.map fun c => (c.code.data, c.maxLocals)) = some (lgc2.data, 2) := by decide +kernel
theorem lgh2 : (lgf2.accessFlags, lgf2.sig.returnType) = (0x0001, some FieldType.int) := by decide +kernel
theorem lgm2 : lgD2.constantPool[17]? = some (.methodref 14 16) ∧ lgD2.constantPool.className? 14 = some "HabitRegistry$Data" ∧ lgD2.constantPool.nameAndType? 16 = some ("lambda$new$2", "(LHabitRegistry$Habit;)I") := by decide +kernel
theorem lgn2 : lgD2.constantPool[14]? = some (.class_ 13) ∧ lgD2.constantPool.string? 13 = some "HabitRegistry$Data" ∧ 14 ≠ lgD2.thisClass := by decide +kernel
theorem lgt2 : lgl2.2.1 = #[] := by decide +kernel
/-! the site of lambda$new$3 -/
def lgD3 : ClassFile := (lg3.file "HabitRegistry$Data").getD { minorVersion := 0, majorVersion := 0, constantPool := #[], accessFlags := 0, thisClass := 0, superClass := 0, interfaces := #[], fields := #[], methods := #[], attributes := #[] }
def lgf3 : Method := ((layoutMethods lgD3).bind (·[1]?)).getD default
def lgl3 : Array Field × Array FieldType × Array FieldType := (layoutFields lgD3 0).getD (#[], #[], #[])
def lgc3 : ByteArray := ⟨#[0x2a, 0xb4, 0x00, 0x0f, 0x2b, 0x2c, 0xb6, 0x00, 0x16, 0xac]⟩
theorem lga3 : lg3.file "HabitRegistry$Data" = some lgD3 := by
  have h : (lg3.file "HabitRegistry$Data").isSome = true := by decide +kernel
  obtain ⟨x, hx⟩ := Option.isSome_iff_exists.mp h
  simp [lgD3, hx]
theorem lgb3 : ∀ ms, layoutMethods lgD3 = some ms → ms[1]? = some lgf3 := by
  intro ms hms
  have h : ((layoutMethods lgD3).bind (·[1]?)).isSome = true := by decide +kernel
  obtain ⟨x, hx⟩ := Option.isSome_iff_exists.mp h
  have hf : lgf3 = x := by simp [lgf3, hx]
  rw [hms] at hx
  rw [hf]
  exact hx
theorem lge3 : layoutFields lgD3 0 = some lgl3 := by
  have h : (layoutFields lgD3 0).isSome = true := by decide +kernel
  obtain ⟨x, hx⟩ := Option.isSome_iff_exists.mp h
  simp [lgl3, hx]
theorem lgg3 : (lgf3.code.map fun c => (c.code.data, c.maxLocals)) = some (lgc3.data, 3) := by decide +kernel
theorem lgh3 : (lgf3.accessFlags, lgf3.sig.returnType) = (0x0001, some FieldType.boolean) := by decide +kernel
theorem lgm3 : lgD3.constantPool[22]? = some (.methodref 19 21) ∧ lgD3.constantPool.className? 19 = some "HabitRegistry$Data" ∧ lgD3.constantPool.nameAndType? 21 = some ("lambda$new$3", "(LHabitRegistry$Person;LHabitRegistry$Person;)Z") := by decide +kernel
theorem lgn3 : lgD3.constantPool[19]? = some (.class_ 18) ∧ lgD3.constantPool.string? 18 = some "HabitRegistry$Data" ∧ 19 ≠ lgD3.thisClass := by decide +kernel
theorem lgq3_0 : lgD3.constantPool[15]? = some (.fieldref 2 14) ∧ lgD3.constantPool.nameAndType? 14 = some ("arg$1", "LHabitRegistry$Data;") ∧ lgl3.1.findIdx? (·.name == "arg$1") = some 0 ∧ (lgl3.1[0]?).map (fun f => (f.isStatic, f.slot)) = some (false, 0) := by decide +kernel
theorem lgt3 : lgl3.2.1 = #[(.object "HabitRegistry$Data")] := by decide +kernel
/-! the site of lambda$strengthOf$4 -/
def lgD4 : ClassFile := (lg4.file "HabitRegistry$Data").getD { minorVersion := 0, majorVersion := 0, constantPool := #[], accessFlags := 0, thisClass := 0, superClass := 0, interfaces := #[], fields := #[], methods := #[], attributes := #[] }
def lgf4 : Method := ((layoutMethods lgD4).bind (·[1]?)).getD default
def lgl4 : Array Field × Array FieldType × Array FieldType := (layoutFields lgD4 0).getD (#[], #[], #[])
def lgc4 : ByteArray := ⟨#[0x2a, 0xb4, 0x00, 0x0f, 0x2b, 0xb8, 0x00, 0x17, 0xac]⟩
theorem lga4 : lg4.file "HabitRegistry$Data" = some lgD4 := by
  have h : (lg4.file "HabitRegistry$Data").isSome = true := by decide +kernel
  obtain ⟨x, hx⟩ := Option.isSome_iff_exists.mp h
  simp [lgD4, hx]
theorem lgb4 : ∀ ms, layoutMethods lgD4 = some ms → ms[1]? = some lgf4 := by
  intro ms hms
  have h : ((layoutMethods lgD4).bind (·[1]?)).isSome = true := by decide +kernel
  obtain ⟨x, hx⟩ := Option.isSome_iff_exists.mp h
  have hf : lgf4 = x := by simp [lgf4, hx]
  rw [hms] at hx
  rw [hf]
  exact hx
theorem lge4 : layoutFields lgD4 0 = some lgl4 := by
  have h : (layoutFields lgD4 0).isSome = true := by decide +kernel
  obtain ⟨x, hx⟩ := Option.isSome_iff_exists.mp h
  simp [lgl4, hx]
theorem lgg4 : (lgf4.code.map fun c => (c.code.data, c.maxLocals)) = some (lgc4.data, 2) := by decide +kernel
theorem lgh4 : (lgf4.accessFlags, lgf4.sig.returnType) = (0x0001, some FieldType.boolean) := by decide +kernel
theorem lgm4 : lgD4.constantPool[23]? = some (.methodref 19 22) ∧ lgD4.constantPool.className? 19 = some "HabitRegistry$Data" ∧ lgD4.constantPool.nameAndType? 22 = some ("lambda$strengthOf$4", "(LHabitRegistry$Person;LHabitRegistry$Habit;)Z") := by decide +kernel
theorem lgn4 : lgD4.constantPool[19]? = some (.class_ 18) ∧ lgD4.constantPool.string? 18 = some "HabitRegistry$Data" ∧ 19 ≠ lgD4.thisClass := by decide +kernel
theorem lgq4_0 : lgD4.constantPool[15]? = some (.fieldref 2 14) ∧ lgD4.constantPool.nameAndType? 14 = some ("arg$1", "LHabitRegistry$Person;") ∧ lgl4.1.findIdx? (·.name == "arg$1") = some 0 ∧ (lgl4.1[0]?).map (fun f => (f.isStatic, f.slot)) = some (false, 0) := by decide +kernel
theorem lgt4 : lgl4.2.1 = #[(.object "HabitRegistry$Person")] := by decide +kernel
/-! the site of lambda$isConsistent$10 -/
def lgD5 : ClassFile := (lg5.file "HabitRegistry$Data").getD { minorVersion := 0, majorVersion := 0, constantPool := #[], accessFlags := 0, thisClass := 0, superClass := 0, interfaces := #[], fields := #[], methods := #[], attributes := #[] }
def lgf5 : Method := ((layoutMethods lgD5).bind (·[1]?)).getD default
def lgl5 : Array Field × Array FieldType × Array FieldType := (layoutFields lgD5 0).getD (#[], #[], #[])
def lgc5 : ByteArray := ⟨#[0x2b, 0xb8, 0x00, 0x11, 0xac]⟩
theorem lga5 : lg5.file "HabitRegistry$Data" = some lgD5 := by
  have h : (lg5.file "HabitRegistry$Data").isSome = true := by decide +kernel
  obtain ⟨x, hx⟩ := Option.isSome_iff_exists.mp h
  simp [lgD5, hx]
theorem lgb5 : ∀ ms, layoutMethods lgD5 = some ms → ms[1]? = some lgf5 := by
  intro ms hms
  have h : ((layoutMethods lgD5).bind (·[1]?)).isSome = true := by decide +kernel
  obtain ⟨x, hx⟩ := Option.isSome_iff_exists.mp h
  have hf : lgf5 = x := by simp [lgf5, hx]
  rw [hms] at hx
  rw [hf]
  exact hx
theorem lge5 : layoutFields lgD5 0 = some lgl5 := by
  have h : (layoutFields lgD5 0).isSome = true := by decide +kernel
  obtain ⟨x, hx⟩ := Option.isSome_iff_exists.mp h
  simp [lgl5, hx]
theorem lgg5 : (lgf5.code.map fun c => (c.code.data, c.maxLocals)) = some (lgc5.data, 2) := by decide +kernel
theorem lgh5 : (lgf5.accessFlags, lgf5.sig.returnType) = (0x0001, some FieldType.boolean) := by decide +kernel
theorem lgm5 : lgD5.constantPool[17]? = some (.methodref 14 16) ∧ lgD5.constantPool.className? 14 = some "HabitRegistry$Data" ∧ lgD5.constantPool.nameAndType? 16 = some ("lambda$isConsistent$10", "(LHabitRegistry$Habit;)Z") := by decide +kernel
theorem lgn5 : lgD5.constantPool[14]? = some (.class_ 13) ∧ lgD5.constantPool.string? 13 = some "HabitRegistry$Data" ∧ 14 ≠ lgD5.thisClass := by decide +kernel
theorem lgt5 : lgl5.2.1 = #[] := by decide +kernel
/-! the site of lambda$heirByComparison$6 -/
def lgD6 : ClassFile := (lg6.file "HabitRegistry$Data").getD { minorVersion := 0, majorVersion := 0, constantPool := #[], accessFlags := 0, thisClass := 0, superClass := 0, interfaces := #[], fields := #[], methods := #[], attributes := #[] }
def lgf6 : Method := ((layoutMethods lgD6).bind (·[1]?)).getD default
def lgl6 : Array Field × Array FieldType × Array FieldType := (layoutFields lgD6 0).getD (#[], #[], #[])
def lgc6 : ByteArray := ⟨#[0x2a, 0xb4, 0x00, 0x11, 0x2a, 0xb4, 0x00, 0x13, 0x2b, 0x2c, 0xb6, 0x00, 0x1b, 0xac]⟩
theorem lga6 : lg6.file "HabitRegistry$Data" = some lgD6 := by
  have h : (lg6.file "HabitRegistry$Data").isSome = true := by decide +kernel
  obtain ⟨x, hx⟩ := Option.isSome_iff_exists.mp h
  simp [lgD6, hx]
theorem lgb6 : ∀ ms, layoutMethods lgD6 = some ms → ms[1]? = some lgf6 := by
  intro ms hms
  have h : ((layoutMethods lgD6).bind (·[1]?)).isSome = true := by decide +kernel
  obtain ⟨x, hx⟩ := Option.isSome_iff_exists.mp h
  have hf : lgf6 = x := by simp [lgf6, hx]
  rw [hms] at hx
  rw [hf]
  exact hx
theorem lge6 : layoutFields lgD6 0 = some lgl6 := by
  have h : (layoutFields lgD6 0).isSome = true := by decide +kernel
  obtain ⟨x, hx⟩ := Option.isSome_iff_exists.mp h
  simp [lgl6, hx]
theorem lgg6 : (lgf6.code.map fun c => (c.code.data, c.maxLocals)) = some (lgc6.data, 3) := by decide +kernel
theorem lgh6 : (lgf6.accessFlags, lgf6.sig.returnType) = (0x0001, some FieldType.boolean) := by decide +kernel
theorem lgm6 : lgD6.constantPool[27]? = some (.methodref 23 26) ∧ lgD6.constantPool.className? 23 = some "HabitRegistry$Data" ∧ lgD6.constantPool.nameAndType? 26 = some ("lambda$heirByComparison$6", "(LHabitRegistry$Person;LHabitRegistry$Person;LHabitRegistry$Person;)Z") := by decide +kernel
theorem lgn6 : lgD6.constantPool[23]? = some (.class_ 22) ∧ lgD6.constantPool.string? 22 = some "HabitRegistry$Data" ∧ 23 ≠ lgD6.thisClass := by decide +kernel
theorem lgq6_0 : lgD6.constantPool[17]? = some (.fieldref 2 16) ∧ lgD6.constantPool.nameAndType? 16 = some ("arg$1", "LHabitRegistry$Data;") ∧ lgl6.1.findIdx? (·.name == "arg$1") = some 0 ∧ (lgl6.1[0]?).map (fun f => (f.isStatic, f.slot)) = some (false, 0) := by decide +kernel
theorem lgq6_1 : lgD6.constantPool[19]? = some (.fieldref 2 18) ∧ lgD6.constantPool.nameAndType? 18 = some ("arg$2", "LHabitRegistry$Person;") ∧ lgl6.1.findIdx? (·.name == "arg$2") = some 1 ∧ (lgl6.1[1]?).map (fun f => (f.isStatic, f.slot)) = some (false, 1) := by decide +kernel
theorem lgt6 : lgl6.2.1 = #[(.object "HabitRegistry$Data"), (.object "HabitRegistry$Person")] := by decide +kernel
/-! the site of lambda$hasOneOfEachKind$9 -/
def lgD7 : ClassFile := (lg7.file "HabitRegistry$Data").getD { minorVersion := 0, majorVersion := 0, constantPool := #[], accessFlags := 0, thisClass := 0, superClass := 0, interfaces := #[], fields := #[], methods := #[], attributes := #[] }
def lgf7 : Method := ((layoutMethods lgD7).bind (·[1]?)).getD default
def lgl7 : Array Field × Array FieldType × Array FieldType := (layoutFields lgD7 0).getD (#[], #[], #[])
def lgc7 : ByteArray := ⟨#[0x2a, 0xb4, 0x00, 0x11, 0x2a, 0xb4, 0x00, 0x13, 0x2b, 0xb8, 0x00, 0x1b, 0xac]⟩
theorem lga7 : lg7.file "HabitRegistry$Data" = some lgD7 := by
  have h : (lg7.file "HabitRegistry$Data").isSome = true := by decide +kernel
  obtain ⟨x, hx⟩ := Option.isSome_iff_exists.mp h
  simp [lgD7, hx]
theorem lgb7 : ∀ ms, layoutMethods lgD7 = some ms → ms[1]? = some lgf7 := by
  intro ms hms
  have h : ((layoutMethods lgD7).bind (·[1]?)).isSome = true := by decide +kernel
  obtain ⟨x, hx⟩ := Option.isSome_iff_exists.mp h
  have hf : lgf7 = x := by simp [lgf7, hx]
  rw [hms] at hx
  rw [hf]
  exact hx
theorem lge7 : layoutFields lgD7 0 = some lgl7 := by
  have h : (layoutFields lgD7 0).isSome = true := by decide +kernel
  obtain ⟨x, hx⟩ := Option.isSome_iff_exists.mp h
  simp [lgl7, hx]
theorem lgg7 : (lgf7.code.map fun c => (c.code.data, c.maxLocals)) = some (lgc7.data, 2) := by decide +kernel
theorem lgh7 : (lgf7.accessFlags, lgf7.sig.returnType) = (0x0001, some FieldType.boolean) := by decide +kernel
theorem lgm7 : lgD7.constantPool[27]? = some (.methodref 23 26) ∧ lgD7.constantPool.className? 23 = some "HabitRegistry$Data" ∧ lgD7.constantPool.nameAndType? 26 = some ("lambda$hasOneOfEachKind$9", "(LHabitRegistry$Person;CLHabitRegistry$Habit;)Z") := by decide +kernel
theorem lgn7 : lgD7.constantPool[23]? = some (.class_ 22) ∧ lgD7.constantPool.string? 22 = some "HabitRegistry$Data" ∧ 23 ≠ lgD7.thisClass := by decide +kernel
theorem lgq7_0 : lgD7.constantPool[17]? = some (.fieldref 2 16) ∧ lgD7.constantPool.nameAndType? 16 = some ("arg$1", "LHabitRegistry$Person;") ∧ lgl7.1.findIdx? (·.name == "arg$1") = some 0 ∧ (lgl7.1[0]?).map (fun f => (f.isStatic, f.slot)) = some (false, 0) := by decide +kernel
theorem lgq7_1 : lgD7.constantPool[19]? = some (.fieldref 2 18) ∧ lgD7.constantPool.nameAndType? 18 = some ("arg$2", "C") ∧ lgl7.1.findIdx? (·.name == "arg$2") = some 1 ∧ (lgl7.1[1]?).map (fun f => (f.isStatic, f.slot)) = some (false, 1) := by decide +kernel
theorem lgt7 : lgl7.2.1 = #[(.object "HabitRegistry$Person"), .char] := by decide +kernel
/-! the site of lambda$habitOf$5 -/
def lgD8 : ClassFile := (lg8.file "HabitRegistry$Data").getD { minorVersion := 0, majorVersion := 0, constantPool := #[], accessFlags := 0, thisClass := 0, superClass := 0, interfaces := #[], fields := #[], methods := #[], attributes := #[] }
def lgf8 : Method := ((layoutMethods lgD8).bind (·[1]?)).getD default
def lgl8 : Array Field × Array FieldType × Array FieldType := (layoutFields lgD8 0).getD (#[], #[], #[])
def lgc8 : ByteArray := ⟨#[0x2a, 0xb4, 0x00, 0x11, 0x2a, 0xb4, 0x00, 0x13, 0x2b, 0xb8, 0x00, 0x1b, 0xac]⟩
theorem lga8 : lg8.file "HabitRegistry$Data" = some lgD8 := by
  have h : (lg8.file "HabitRegistry$Data").isSome = true := by decide +kernel
  obtain ⟨x, hx⟩ := Option.isSome_iff_exists.mp h
  simp [lgD8, hx]
theorem lgb8 : ∀ ms, layoutMethods lgD8 = some ms → ms[1]? = some lgf8 := by
  intro ms hms
  have h : ((layoutMethods lgD8).bind (·[1]?)).isSome = true := by decide +kernel
  obtain ⟨x, hx⟩ := Option.isSome_iff_exists.mp h
  have hf : lgf8 = x := by simp [lgf8, hx]
  rw [hms] at hx
  rw [hf]
  exact hx
theorem lge8 : layoutFields lgD8 0 = some lgl8 := by
  have h : (layoutFields lgD8 0).isSome = true := by decide +kernel
  obtain ⟨x, hx⟩ := Option.isSome_iff_exists.mp h
  simp [lgl8, hx]
theorem lgg8 : (lgf8.code.map fun c => (c.code.data, c.maxLocals)) = some (lgc8.data, 2) := by decide +kernel
theorem lgh8 : (lgf8.accessFlags, lgf8.sig.returnType) = (0x0001, some FieldType.boolean) := by decide +kernel
theorem lgm8 : lgD8.constantPool[27]? = some (.methodref 23 26) ∧ lgD8.constantPool.className? 23 = some "HabitRegistry$Data" ∧ lgD8.constantPool.nameAndType? 26 = some ("lambda$habitOf$5", "(LHabitRegistry$Person;CLHabitRegistry$Habit;)Z") := by decide +kernel
theorem lgn8 : lgD8.constantPool[23]? = some (.class_ 22) ∧ lgD8.constantPool.string? 22 = some "HabitRegistry$Data" ∧ 23 ≠ lgD8.thisClass := by decide +kernel
theorem lgq8_0 : lgD8.constantPool[17]? = some (.fieldref 2 16) ∧ lgD8.constantPool.nameAndType? 16 = some ("arg$1", "LHabitRegistry$Person;") ∧ lgl8.1.findIdx? (·.name == "arg$1") = some 0 ∧ (lgl8.1[0]?).map (fun f => (f.isStatic, f.slot)) = some (false, 0) := by decide +kernel
theorem lgq8_1 : lgD8.constantPool[19]? = some (.fieldref 2 18) ∧ lgD8.constantPool.nameAndType? 18 = some ("arg$2", "C") ∧ lgl8.1.findIdx? (·.name == "arg$2") = some 1 ∧ (lgl8.1[1]?).map (fun f => (f.isStatic, f.slot)) = some (false, 1) := by decide +kernel
theorem lgt8 : lgl8.2.1 = #[(.object "HabitRegistry$Person"), .char] := by decide +kernel
/-! the site of lambda$habitAt$8 -/
def lgD9 : ClassFile := (lg9.file "HabitRegistry$Data").getD { minorVersion := 0, majorVersion := 0, constantPool := #[], accessFlags := 0, thisClass := 0, superClass := 0, interfaces := #[], fields := #[], methods := #[], attributes := #[] }
def lgf9 : Method := ((layoutMethods lgD9).bind (·[1]?)).getD default
def lgl9 : Array Field × Array FieldType × Array FieldType := (layoutFields lgD9 0).getD (#[], #[], #[])
def lgc9 : ByteArray := ⟨#[0x2a, 0xb4, 0x00, 0x11, 0x2a, 0xb4, 0x00, 0x13, 0x2b, 0xb6, 0x00, 0x1b, 0xac]⟩
theorem lga9 : lg9.file "HabitRegistry$Data" = some lgD9 := by
  have h : (lg9.file "HabitRegistry$Data").isSome = true := by decide +kernel
  obtain ⟨x, hx⟩ := Option.isSome_iff_exists.mp h
  simp [lgD9, hx]
theorem lgb9 : ∀ ms, layoutMethods lgD9 = some ms → ms[1]? = some lgf9 := by
  intro ms hms
  have h : ((layoutMethods lgD9).bind (·[1]?)).isSome = true := by decide +kernel
  obtain ⟨x, hx⟩ := Option.isSome_iff_exists.mp h
  have hf : lgf9 = x := by simp [lgf9, hx]
  rw [hms] at hx
  rw [hf]
  exact hx
theorem lge9 : layoutFields lgD9 0 = some lgl9 := by
  have h : (layoutFields lgD9 0).isSome = true := by decide +kernel
  obtain ⟨x, hx⟩ := Option.isSome_iff_exists.mp h
  simp [lgl9, hx]
theorem lgg9 : (lgf9.code.map fun c => (c.code.data, c.maxLocals)) = some (lgc9.data, 2) := by decide +kernel
theorem lgh9 : (lgf9.accessFlags, lgf9.sig.returnType) = (0x0001, some FieldType.boolean) := by decide +kernel
theorem lgm9 : lgD9.constantPool[27]? = some (.methodref 23 26) ∧ lgD9.constantPool.className? 23 = some "HabitRegistry$Data" ∧ lgD9.constantPool.nameAndType? 26 = some ("lambda$habitAt$8", "(ILHabitRegistry$Habit;)Z") := by decide +kernel
theorem lgn9 : lgD9.constantPool[23]? = some (.class_ 22) ∧ lgD9.constantPool.string? 22 = some "HabitRegistry$Data" ∧ 23 ≠ lgD9.thisClass := by decide +kernel
theorem lgq9_0 : lgD9.constantPool[17]? = some (.fieldref 2 16) ∧ lgD9.constantPool.nameAndType? 16 = some ("arg$1", "LHabitRegistry$Data;") ∧ lgl9.1.findIdx? (·.name == "arg$1") = some 0 ∧ (lgl9.1[0]?).map (fun f => (f.isStatic, f.slot)) = some (false, 0) := by decide +kernel
theorem lgq9_1 : lgD9.constantPool[19]? = some (.fieldref 2 18) ∧ lgD9.constantPool.nameAndType? 18 = some ("arg$2", "I") ∧ lgl9.1.findIdx? (·.name == "arg$2") = some 1 ∧ (lgl9.1[1]?).map (fun f => (f.isStatic, f.slot)) = some (false, 1) := by decide +kernel
theorem lgt9 : lgl9.2.1 = #[(.object "HabitRegistry$Data"), .int] := by decide +kernel
/-! the site of lambda$habitAt$7 -/
def lgD10 : ClassFile := (lg10.file "HabitRegistry$Data").getD { minorVersion := 0, majorVersion := 0, constantPool := #[], accessFlags := 0, thisClass := 0, superClass := 0, interfaces := #[], fields := #[], methods := #[], attributes := #[] }
def lgf10 : Method := ((layoutMethods lgD10).bind (·[1]?)).getD default
def lgl10 : Array Field × Array FieldType × Array FieldType := (layoutFields lgD10 0).getD (#[], #[], #[])
def lgc10 : ByteArray := ⟨#[0x2a, 0xb4, 0x00, 0x0f, 0x2b, 0xb8, 0x00, 0x17, 0xac]⟩
theorem lga10 : lg10.file "HabitRegistry$Data" = some lgD10 := by
  have h : (lg10.file "HabitRegistry$Data").isSome = true := by decide +kernel
  obtain ⟨x, hx⟩ := Option.isSome_iff_exists.mp h
  simp [lgD10, hx]
theorem lgb10 : ∀ ms, layoutMethods lgD10 = some ms → ms[1]? = some lgf10 := by
  intro ms hms
  have h : ((layoutMethods lgD10).bind (·[1]?)).isSome = true := by decide +kernel
  obtain ⟨x, hx⟩ := Option.isSome_iff_exists.mp h
  have hf : lgf10 = x := by simp [lgf10, hx]
  rw [hms] at hx
  rw [hf]
  exact hx
theorem lge10 : layoutFields lgD10 0 = some lgl10 := by
  have h : (layoutFields lgD10 0).isSome = true := by decide +kernel
  obtain ⟨x, hx⟩ := Option.isSome_iff_exists.mp h
  simp [lgl10, hx]
theorem lgg10 : (lgf10.code.map fun c => (c.code.data, c.maxLocals)) = some (lgc10.data, 2) := by decide +kernel
theorem lgh10 : (lgf10.accessFlags, lgf10.sig.returnType) = (0x0001, some FieldType.boolean) := by decide +kernel
theorem lgm10 : lgD10.constantPool[23]? = some (.methodref 19 22) ∧ lgD10.constantPool.className? 19 = some "HabitRegistry$Data" ∧ lgD10.constantPool.nameAndType? 22 = some ("lambda$habitAt$7", "(LHabitRegistry$Habit;LHabitRegistry$Habit;)Z") := by decide +kernel
theorem lgn10 : lgD10.constantPool[19]? = some (.class_ 18) ∧ lgD10.constantPool.string? 18 = some "HabitRegistry$Data" ∧ 19 ≠ lgD10.thisClass := by decide +kernel
theorem lgq10_0 : lgD10.constantPool[15]? = some (.fieldref 2 14) ∧ lgD10.constantPool.nameAndType? 14 = some ("arg$1", "LHabitRegistry$Habit;") ∧ lgl10.1.findIdx? (·.name == "arg$1") = some 0 ∧ (lgl10.1[0]?).map (fun f => (f.isStatic, f.slot)) = some (false, 0) := by decide +kernel
theorem lgt10 : lgl10.2.1 = #[(.object "HabitRegistry$Habit")] := by decide +kernel