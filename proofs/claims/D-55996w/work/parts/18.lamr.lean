/-! LAMBDAS: the rows of their calls -/
section LMC
variable {l : Launch} {D : va_G} {s0 : State} {own : String} {ret : Option FieldType} {nL : Nat}
variable {p : Program} {e : Env} {R : Room} {s : State} {m : MethodId} {args : Array Value} {below : List Frame} {meth : Method} {c : Code} {H : Heap} {locs : List Loc} {cells slots : Nat} {Q : State → Prop}
variable {cc : ByteArray} {pc : Nat} {ls : Array Slot} {rest : List Value} {A : Nat → Prop} {H0 : Heap}
/-- a call by an interface of an object of a made class -/
theorem lm_call {x : MethodName} {index count t : Nat} {As : List Value} {σ : Lambda.Shape} {dcl cK : ClassId} {P : Option Value → Heap → Prop} {R' : Room} {methk : Method} {ck : Code} {kK : Class} {cell : Cell}
    (C : hr_C l D s0 H0 A p s m args meth c cc nL own ret) (hlink : Cond.methodLink own index x ∈ lw_all) (hdecl : Cond.declares x ∈ lw_tbl) (hface : Cond.interfaceMethod x.cls x.cls x.name x.desc ∈ lw_tbl)
    (hσ : σ.iface = x.cls ∧ σ.name = x.name ∧ σ.sam.toString = x.desc) (hx : x.cls ≠ "java/lang/invoke/MethodHandle" ∧ x.cls ≠ "java/lang/invoke/VarHandle") (hlen : (parseMethodDescriptor x.desc).map (fun d => d.parameters.length) = some As.length)
    (hmade : Lambda.isMade { classPath := fun _ => none } s.vm dcl σ cK = true) (hcan : s.lambdaCallable σ cK = true) (hcell : H[t]? = some cell) (hcls : cell.cls = cK) (hvm : cell.vm = .none)
    (hkK : s.vm.classes[cK]? = some kK) (hpn : plainName kK.name = true) (hmk : s.vm.method? ⟨cK, 1⟩ = some methk) (hck : methk.code = some ck) (hlk : methk.locks = false) (hfl : methk.accessFlags = 0x0001)
    (hls : ls.size = nL) (hW : (rest.map fun v => v.category).sum ≤ 8) (hR : R'.frames + 1 ≤ R.frames ∧ 8 + (ck.maxLocals + 11) + R'.locals ≤ R.locals) (hc : cells + R'.cells ≤ R.cells ∧ slots + R'.slots ≤ R.slots)
    (kW : ∀ (g : JFrame) (s' : State), s.WarmedH s'.vm → s'.heap = H → W p l e R' s' ⟨cK, 1⟩ (Value.ref t :: As).toArray (.java g :: below) methk ck H [] 0 0 (vx_MQ (.java g :: below) (hr_Q H (hr_N H) P) (hr_QX H (hr_N H) hr_no) (Value.ref t :: As).toArray s' R'.cells R'.slots (hr_N H)) (entryFrame ⟨cK, 1⟩ (Value.ref t :: As).toArray ck.maxLocals))
    (hS : va_S A H0 H locs) (hA : ∀ q, hr_N H q → A q) (d : decode cc pc = .ok (.invokeinterface index count, 5))
    (kk : ∀ (v : Option Value) (H1 : Heap) (locs1 : List Loc), P v H1 → hr_X H H1 → va_S A H0 H1 locs1 → W p l e R s m args below meth c H1 locs1 (cells + R'.cells) (slots + R'.slots) Q (F0 m (pc + 5) ls (v.toList ++ rest))) :
    W p l e R s m args below meth c H locs cells slots Q (F0 m pc ls (As.reverse ++ .ref t :: rest)) := by
  intro T hT X
  obtain ⟨r0, r, hn0, hrm, hstatic, hsig⟩ := Cond.declares_spec (C.dc hdecl)
  have hface' : (Cond.interfaceMethod x.cls x.cls x.name x.desc).before #[] s0 = true := C.Z.2.2.1 _ hface rfl
  obtain ⟨ci, ki, r1, hci, hki, hii, hfound, hn1⟩ := Cond.interfaceMethod_spec hface'
  have hal := C.E.1.alike
  obtain ⟨ki', hki', heq⟩ := hal.2.2 _ _ hki
  have hii' : ki'.isInterface = true := by rw [heq]; exact hii
  have hci' : s.vm.findClass x.cls = some ci := by rw [hal.findClass]; exact hci
  have hr0 : r0.cls = ci := by
    have := findClass_of_methodNamed hn0
    exact Option.some.inj (this.symm.trans hci')
  have hnm := name_of_methodNamed hn0 hrm
  obtain ⟨dk, k, ok, tk, file, cf, object, iface, tc, lay, methods, target, found, -, -, -, -, -, hifc, -, -, -, -, -, -, hfd, -, -, -, -, -, -, -, -, -, -, hsel⟩ := Lambda.isMade_spec hmade
  rw [hσ.1] at hifc
  have hic : iface = ci := Option.some.inj (hifc.symm.trans hci')
  subst hic
  have hfr : found = r0 := by
    have h1 : s.methodFound? x.cls x.name x.desc = some r0 := State.methodFound?_of_named hn0 hx
    simp only [State.methodFound?, hci', hki', Option.bind_eq_bind, Option.bind_some, hii'] at h1
    rw [hσ.2.1, hσ.2.2] at hfd
    rw [hfd] at h1
    exact Option.some.inj h1
  subst hfr
  obtain ⟨i2, hi2, hasg, hway⟩ := State.lambdaCallable_spec hcan
  rw [hσ.1] at hi2
  cases Option.some.inj (hi2.symm.trans hci')
  have hcellT : T.heap[t]? = some cell := by rw [hT]; exact hcell
  obtain ⟨vm', X', st⟩ := X.invokeinterface C.x C.ow (C.w _ hlink) hn0 hrm hstatic (ki := ki') (by rw [hr0]; exact hki') hii' hx hcellT (fun q => by rw [hvm]; exact fun z => nomatch z) (kcell := kK) (by rw [hcls]; exact hkK) (by rw [hcls, hr0]; exact hasg)
    (m' := ⟨cK, 1⟩) (by rw [hcls, Launch.admits_selectMethod X.admits]; exact hsel) hmk (by rw [hcls, hnm.1, hnm.2, ← hσ.2.1, ← hσ.2.2]; exact hway) (by rw [hfl]; decide) (by simp [Method.isAbstract, hfl, hasFlag, Acc.abstract]) (g := F0 m pc ls (As.reverse ++ .ref t :: rest)) rfl (argsL := As) (rest := rest)
    (by rw [hsig] at hlen; exact (Option.some.inj hlen).symm) rfl (by rw [C.b]; exact d)
  have hpk : (T.setVm vm').plainMethod ⟨cK, 1⟩ := State.plainMethod.of_name (fun k' hk' => by
    obtain ⟨k9, hk9, he9⟩ := X'.warmed.alike.2.2 _ _ hkK
    cases hk9.symm.trans hk'
    rw [he9]; exact hpn)
  obtain ⟨Y₀, hin⟩ := X'.into (g := F0 m pc ls rest) rfl (by show ls.size = _; rw [hls, C.ml]) (by rw [C.b]; exact d) (Value.ref t :: As).toArray (R' := R') (mk := ⟨cK, 1⟩) (methk := methk) (ck := ck) (by rw [X'.warmed.alike.method?]; exact hmk) hck hlk hpk hR.1 (by show 2 * 0 + (rest.map fun v => v.category).sum + (ck.maxLocals + 11) + R'.locals ≤ R.locals; omega) hc.1 hc.2
  obtain ⟨t', a1, o, -, hend, hq⟩ := kW (F0 m pc ls rest) ((T.setVm vm').calling (F0 m pc ls rest) ⟨cK, 1⟩ (Value.ref t :: As).toArray) X'.warmed (by show T.heap = H; exact hT) _ (by show T.heap = H; exact hT) Y₀
  rcases hq with ⟨⟨⟨v, rfl, hp⟩, hF⟩, L, hfe, hL⟩ | ⟨q, rfl, E, ce, L, hx, hce, hcv, hcl, hW₂, hsm, hL⟩
  · obtain ⟨-, hW₂, hsame⟩ := hfe
    obtain ⟨T2, X2, hW3, -, ht⟩ := X'.outOf (g := F0 m pc ls rest) rfl (by rw [C.b]; exact d) hend hW₂ hsame
    have hh : T2.heap = t'.heap := by rw [ht]; rfl
    have hS1 : va_S A H0 T2.heap (locs ++ L) := by
      rw [hh]
      refine ⟨Nat.le_trans hS.1 hF.1, fun q h1 h2 => (hF.2 q (Nat.lt_of_lt_of_le h1 hS.1) (fun z => h2 (hA q z))).trans (hS.2.1 q h1 h2), fun q hq => ?_⟩
      rcases List.mem_append.mp hq with h | h
      · exact hS.2.2 q h
      · exact hA _ (hL q h)
    obtain ⟨t2, a2, b2⟩ := kk v T2.heap (locs ++ L) (by rw [hh]; exact hp) (by rw [hh]; exact hF) hS1 T2 rfl X2
    refine ⟨t2, st _ (fun acts => ?_), b2⟩
    rw [hin acts]
    refine (Steps.weaken (mid := [.java (F0 m pc ls rest)]) a1).trans ?_
    rw [ht]
    exact a2
  · exact hx.1.elim
end LMC
/-- what a site's word says, in every later state -/
theorem lm_site {s0 : State} {x : MethodName} {pc idx : Nat} {σ : Lambda.Shape} {cK : ClassId} {one : Option Addr} {vm' : Vm} (h : s0.lambdaAt? x pc idx σ = some (cK, one)) (hW : s0.WarmedH vm') :
    ∃ (dcl : ClassId) (dk : Class), Lambda.isMade { classPath := fun _ => none } vm' dcl σ cK = true ∧ vm'.classes[dcl]? = some dk ∧ dk.name = x.cls ∧ vm'.findClass x.cls = some dcl ∧ ∀ s : State, s.vm = vm' → s.lambdaCallable σ cK = true := by
  obtain ⟨m, kc, cf, i0, p0, l, hm, hk, hcf, hsh, hin, hfind, hmade, hcall, hl⟩ := State.lambdaAt?_spec h
  obtain ⟨k9, hk9, hn9⟩ := className_of_methodNamed hm
  have hf9 := findClass_of_methodNamed hm
  obtain ⟨k8, hk8, he8⟩ := hW.alike.2.2 _ _ hk9
  refine ⟨m.cls, k8, Lambda.isMade_warmer hW hmade, hk8, by rw [he8]; exact hn9, by rw [hW.alike.findClass]; exact hf9, ?_⟩
  intro s hs
  have hA := hW.alike
  rw [← hs] at hA
  simp only [State.lambdaCallable, hA.findClass, hA.assignable, hA.superclasses, hA.declaredIn] at hcall ⊢
  exact hcall
section LMF
variable {l : Launch} {D : va_G} {s0 : State}
variable {p : Program} {e : Env} {R : Room} {s : State} {m : MethodId} {args : Array Value} {below : List Frame} {meth : Method} {c : Code} {H : Heap} {locs : List Loc} {cells slots : Nat} {Q : State → Prop}
variable {cc : ByteArray} {pc : Nat} {ls : Array Slot} {rest : List Value}
/-- in a made class's method: a captured value -/
theorem lm_getf {index a : Nat} {f : Field} {cell : Cell} {v : Value} (hexec : p.tables.exec = Jvm.exec) (hb : c.code = cc) (hready : ∀ vm' : Vm, s.WarmedH vm' → vm'.fieldReady m.cls index m.cls f) (hns : f.isStatic = false) (hcell : H[a]? = some cell) (hvm : cell.vm = .none) (hv : cell.slots[f.slot]? = some v) (d : decode cc pc = .ok (.getfield index, 3))
    (kk : W p l e R s m args below meth c H locs cells slots Q (F0 m (pc + 3) ls (v :: rest))) : W p l e R s m args below meth c H locs cells slots Q (F0 m pc ls (.ref a :: rest)) := by
  intro T hT X
  obtain ⟨t, a1, b1⟩ := kk T hT X
  refine ⟨t, ?_, b1⟩
  have hdc : decode c.code pc = .ok (.getfield index, 3) := by rw [hb]; exact d
  jvm_step X.here [hexec, hdc, getfield.wp_ready (e := e) (s := T) (c := m.cls) (field := f) (a := a) (rest := rest) (cell := cell) (v := v) (f := F0 m pc ls (.ref a :: rest)) X.here.top (hready _ X.warmed) hns rfl (by rw [hT]; exact hcell) (by rw [hvm]; exact fun z => nomatch z) hv]
  exact a1
/-- the words of a contract's method -/
theorem lm_ws {ws : List Cond} (g : GoodIn lw_all ws) (hw : ∀ w ∈ lw_all, ∀ (a' : Array Value) (U : State), s.WarmedH U.vm → w.before a' U = true) : ∀ w ∈ ws, ∀ (a' : Array Value) (U : State), s.WarmedH U.vm → w.before a' U = true := fun w h => hw w (g w h).1
/-- in a made class's method: the call of the lambda's body, static -/
theorem lm_st {y : MethodName} {bytes : ByteArray} {maxL index : Nat} {rt : Option FieldType} {rm : Room} {As : List Value} {A1 : Nat → Prop} {P : Option Value → Heap → Prop} {tgt : MethodId}
    (hexec : p.tables.exec = Jvm.exec) (hb : c.code = cc) (g : GoodIn lw_all (ws_ y bytes maxL rt)) (hi : Cond.initialized y.cls ∈ lw_all) (hst : Cond.static y ∈ lw_all) (hw : ∀ w ∈ lw_all, ∀ (a' : Array Value) (U : State), s.WarmedH U.vm → w.before a' U = true)
    (hwell : s0.WarmedH s.vm) (hX : hr_X s0.heap H) (hM : hr_M l s0 y (ws_ y bytes maxL rt) rm As H A1 P hr_no) (hnm : s.methodNamed? y = some tgt) (hd : y.cls ≠ "java/lang/invoke/MethodHandle" ∧ y.cls ≠ "java/lang/invoke/VarHandle") (hlen : (parseMethodDescriptor y.desc).map (fun d => d.parameters.length) = some As.length)
    (hready : ∀ vm' : Vm, s.WarmedH vm' → vm'.methodReady m.cls index tgt) (href : ∀ T : State, s.WarmedH T.vm → plainRef T e m.cls index)
    (hls : ls.size = c.maxLocals) (hW : (rest.map fun v => v.category).sum ≤ 8) (hR : rm.frames + 1 ≤ R.frames ∧ 8 + (maxL + 11) + rm.locals ≤ R.locals) (hc : cells + rm.cells ≤ R.cells ∧ slots + rm.slots ≤ R.slots) (hA1 : ∀ q, A1 q → hr_N H q) (hS : va_S (hr_N H) H H locs) (d : decode cc pc = .ok (.invokestatic index, 3))
    (kk : ∀ (v : Option Value) (H1 : Heap) (locs1 : List Loc), P v H1 → va_S (hr_N H) H H1 locs1 → W p l e R s m args below meth c H1 locs1 (cells + rm.cells) (slots + rm.slots) Q (F0 m (pc + 3) ls (v.toList ++ rest))) :
    W p l e R s m args below meth c H locs cells slots Q (F0 m pc ls (As.reverse ++ rest)) := by
  intro T hT X
  have hcw : Cond.code y bytes maxL rt ∈ lw_all := (g _ List.mem_cons_self).1
  obtain ⟨metht, ct, hmt, hct, -, -, -, -, -, hsig⟩ := Cond.code_spec (s := s) (args := #[]) hnm (hw _ hcw #[] s (State.WarmedH.refl s))
  have hstat : metht.isStatic = true := Cond.static_spec (args := #[]) hnm hmt (hw _ hst #[] s (State.WarmedH.refl s))
  obtain ⟨kY, hkY, hkn⟩ := className_of_methodNamed hnm
  have hinit : kY.init = .initialized := Cond.initialized_spec (args := #[]) (findClass_of_methodNamed hnm) hkY (hw _ hi #[] s (State.WarmedH.refl s))
  have hal := X.warmed.alike
  have hmtT : T.vm.method? tgt = some metht := by rw [hal.method?]; exact hmt
  obtain ⟨kT, hkT, -⟩ := className_of_methodNamed (s := s.setVm T.vm) (x := y) (m := tgt) (by rw [State.methodNamed?_setVm hal]; exact hnm)
  have hkTn : kT.name = y.cls := by
    obtain ⟨k9, hk9, he9⟩ := hal.2.2 _ _ hkY
    cases hkT.symm.trans hk9
    rw [he9]; exact hkn
  have hnmT : T.methodNamed? y = some tgt := by
    have h9 := State.methodNamed?_setVm (s := s) hal y
    rw [hnm] at h9
    exact h9
  have hinT : kT.init = .initialized := Cond.initialized_spec (args := #[]) (findClass_of_methodNamed hnmT) hkT (hw _ hi #[] T X.warmed)
  have hdc : decode c.code pc = .ok (.invokestatic index, 3) := by rw [hb]; exact d
  have hK : vx_Back l R p e below s args y 3 8 (PreOf R rm.cells rm.slots (va_Pc As (fun U => hr_E s0 U ∧ U.heap = H))) (PostOf (hr_Q H A1 P) rm.cells rm.slots A1) (vx_Post (hr_QX H A1 hr_no) rm.cells rm.slots A1) :=
    vx_back (bytes := bytes) (maxL := maxL) (ret := rt) hM hr_blind rfl rfl hR.1 hR.2 (lm_ws g hw) (List.mem_cons_self) (fun a' U hW9 => hw _ hi a' U hW9)
  rcases hK m meth c ⟨T, locs, cells, slots⟩ (F0 m pc ls rest) (.invokestatic index) tgt As.toArray X rfl hls hdc (by show 2 * 0 + (rest.map fun v => v.category).sum ≤ 8; omega) hnmT ⟨hc.1, hc.2, rfl, ⟨State.WarmedH.trans hwell X.warmed, by show hr_X s0.heap T.heap; rw [hT]; exact hX⟩, hT⟩ with ⟨v, ⟨U', l2, c2, s2⟩, X', ⟨g', mk, t, L, e1, e2, hq, h1, hL, h2, h3⟩, st⟩ | ⟨q, ⟨U', l2, c2, s2⟩, X', ⟨g', mk, t, L, E, ce, e1, e2, hq, hce, hcv, hcl, h1, hL, h2, h3⟩, st⟩
  · dsimp only [Pt.U, Pt.locs, Pt.cells, Pt.slots] at X' e1 e2 h1 h2 h3 st
    subst h1; subst h2; subst h3
    obtain ⟨⟨v9, hv9, hp⟩, hF⟩ := hq
    cases hv9
    have hS1 : va_S (hr_N H) H U'.heap (locs ++ L) := by
      rw [e1]
      refine ⟨hF.1, fun q h1 h2 => hF.2 q h1 (fun z => h2 (hA1 q z)), fun q hq => ?_⟩
      rcases List.mem_append.mp hq with h | h
      · exact hS.2.2 q h
      · exact hA1 _ (hL q h)
    obtain ⟨t2, a2, b2⟩ := kk v U'.heap (locs ++ L) (by rw [e1]; exact hp) hS1 U' rfl X'
    refine ⟨t2, ?_, b2⟩
    jvm_step X.here [hexec, hdc, invokestatic.wp_ready (e := e) (s := T) (m := tgt) (k := kT) (meth := metht) (args := As) (rest := rest) (f := F0 m pc ls (As.reverse ++ rest)) X.here.top (href T X.warmed) (hready _ X.warmed) hkT hmtT (signaturePolymorphic_of_name (by rw [hkTn]; exact hd) _) hstat hinT (by rw [hsig] at hlen; exact (Option.some.inj hlen).symm) rfl]
    intro acts
    rw [doInvoke_state]
    exact st.trans a2
  · exact hq.1.elim
/-- in a made class's method: the call of the lambda's body, a method of the object that was captured -/
theorem lm_vi {y : MethodName} {bytes : ByteArray} {maxL index : Nat} {rt : Option FieldType} {rm : Room} {As : List Value} {A1 : Nat → Prop} {P : Option Value → Heap → Prop} {tgt : MethodId} {b : Nat} {cellB : Cell}
    (hexec : p.tables.exec = Jvm.exec) (hb : c.code = cc) (g : GoodIn lw_all (ws_ y bytes maxL rt)) (hi : Cond.initialized y.cls ∈ lw_all) (hst : Cond.instanceMethod y ∈ lw_all) (hsl : Cond.selects y.cls y y ∈ lw_all) (hw : ∀ w ∈ lw_all, ∀ (a' : Array Value) (U : State), s.WarmedH U.vm → w.before a' U = true)
    (hwell : s0.WarmedH s.vm) (hX : hr_X s0.heap H) (hM : hr_M l s0 y (ws_ y bytes maxL rt) rm (.ref b :: As) H A1 P hr_no) (hcB : H[b]? = some cellB) (hvB : cellB.vm = .none) (hclB : s.vm.findClass y.cls = some cellB.cls) (hnm : s.methodNamed? y = some tgt) (hd : y.cls ≠ "java/lang/invoke/MethodHandle" ∧ y.cls ≠ "java/lang/invoke/VarHandle") (hlen : (parseMethodDescriptor y.desc).map (fun d => d.parameters.length) = some As.length)
    (hready : ∀ vm' : Vm, s.WarmedH vm' → vm'.methodReady m.cls index tgt) (href : ∀ T : State, s.WarmedH T.vm → namesAClass T m.cls index)
    (hls : ls.size = c.maxLocals) (hW : (rest.map fun v => v.category).sum ≤ 8) (hR : rm.frames + 1 ≤ R.frames ∧ 8 + (maxL + 11) + rm.locals ≤ R.locals) (hc : cells + rm.cells ≤ R.cells ∧ slots + rm.slots ≤ R.slots) (hA1 : ∀ q, A1 q → hr_N H q) (hS : va_S (hr_N H) H H locs) (d : decode cc pc = .ok (.invokevirtual index, 3))
    (kk : ∀ (v : Option Value) (H1 : Heap) (locs1 : List Loc), P v H1 → va_S (hr_N H) H H1 locs1 → W p l e R s m args below meth c H1 locs1 (cells + rm.cells) (slots + rm.slots) Q (F0 m (pc + 3) ls (v.toList ++ rest))) :
    W p l e R s m args below meth c H locs cells slots Q (F0 m pc ls (As.reverse ++ .ref b :: rest)) := by
  intro T hT X
  have hcw : Cond.code y bytes maxL rt ∈ lw_all := (g _ List.mem_cons_self).1
  obtain ⟨metht, ct, hmt, hct, -, -, -, -, -, hsig⟩ := Cond.code_spec (s := s) (args := #[]) hnm (hw _ hcw #[] s (State.WarmedH.refl s))
  obtain ⟨mi, methi, hni, hmi, hsti, habi⟩ := Cond.instanceMethod_spec (args := #[]) (hw _ hst #[] s (State.WarmedH.refl s))
  cases Option.some.inj (hni.symm.trans hnm)
  cases Option.some.inj (hmi.symm.trans hmt)
  have hsel : selectMethod e.platform T.vm cellB.cls tgt = .method tgt := by
    obtain ⟨c2, r2, m2, q1, q2, q3, q4, -⟩ := Cond.selects_spec (args := #[]) (hw _ hsl #[] T X.warmed)
    have hal := X.warmed.alike
    have hnT : T.methodNamed? y = some tgt := by
      have h9 := State.methodNamed?_setVm (s := s) hal y
      rw [hnm] at h9
      exact h9
    have hfT : T.vm.findClass y.cls = some cellB.cls := by rw [hal.findClass]; exact hclB
    cases Option.some.inj (q1.symm.trans hfT)
    cases Option.some.inj (q2.symm.trans (State.methodFound?_of_named hnT hd))
    cases Option.some.inj (q3.symm.trans hnT)
    rw [Launch.admits_selectMethod X.admits]; exact q4
  have hitf : ∀ k : Class, T.vm.classes[tgt.cls]? = some k → k.isInterface = false := by
    intro k hk
    obtain ⟨c2, r2, m2, q1, q2, q3, q4, k3, q5, q6⟩ := Cond.selects_spec (args := #[]) (hw _ hsl #[] T X.warmed)
    have hnT : T.methodNamed? y = some tgt := by
      have h9 := State.methodNamed?_setVm (s := s) X.warmed.alike y
      rw [hnm] at h9
      exact h9
    cases Option.some.inj (q3.symm.trans hnT)
    cases Option.some.inj (q5.symm.trans hk)
    exact q6
  obtain ⟨kY, hkY, hkn⟩ := className_of_methodNamed hnm
  have hinit : kY.init = .initialized := Cond.initialized_spec (args := #[]) (findClass_of_methodNamed hnm) hkY (hw _ hi #[] s (State.WarmedH.refl s))
  have hal := X.warmed.alike
  have hmtT : T.vm.method? tgt = some metht := by rw [hal.method?]; exact hmt
  obtain ⟨kT, hkT, -⟩ := className_of_methodNamed (s := s.setVm T.vm) (x := y) (m := tgt) (by rw [State.methodNamed?_setVm hal]; exact hnm)
  have hkTn : kT.name = y.cls := by
    obtain ⟨k9, hk9, he9⟩ := hal.2.2 _ _ hkY
    cases hkT.symm.trans hk9
    rw [he9]; exact hkn
  have hnmT : T.methodNamed? y = some tgt := by
    have h9 := State.methodNamed?_setVm (s := s) hal y
    rw [hnm] at h9
    exact h9
  have hinT : kT.init = .initialized := Cond.initialized_spec (args := #[]) (findClass_of_methodNamed hnmT) hkT (hw _ hi #[] T X.warmed)
  have hdc : decode c.code pc = .ok (.invokevirtual index, 3) := by rw [hb]; exact d
  have hK : vx_Back l R p e below s args y 3 8 (PreOf R rm.cells rm.slots (va_Pc (.ref b :: As) (fun U => hr_E s0 U ∧ U.heap = H))) (PostOf (hr_Q H A1 P) rm.cells rm.slots A1) (vx_Post (hr_QX H A1 hr_no) rm.cells rm.slots A1) :=
    vx_back (bytes := bytes) (maxL := maxL) (ret := rt) hM hr_blind rfl rfl hR.1 hR.2 (lm_ws g hw) (List.mem_cons_self) (fun a' U hW9 => hw _ hi a' U hW9)
  rcases hK m meth c ⟨T, locs, cells, slots⟩ (F0 m pc ls rest) (.invokevirtual index) tgt (Value.ref b :: As).toArray X rfl hls hdc (by show 2 * 0 + (rest.map fun v => v.category).sum ≤ 8; omega) hnmT ⟨hc.1, hc.2, rfl, ⟨State.WarmedH.trans hwell X.warmed, by show hr_X s0.heap T.heap; rw [hT]; exact hX⟩, hT⟩ with ⟨v, ⟨U', l2, c2, s2⟩, X', ⟨g', mk, t, L, e1, e2, hq, h1, hL, h2, h3⟩, st⟩ | ⟨q, ⟨U', l2, c2, s2⟩, X', ⟨g', mk, t, L, E, ce, e1, e2, hq, hce, hcv, hcl, h1, hL, h2, h3⟩, st⟩
  · dsimp only [Pt.U, Pt.locs, Pt.cells, Pt.slots] at X' e1 e2 h1 h2 h3 st
    subst h1; subst h2; subst h3
    obtain ⟨⟨v9, hv9, hp⟩, hF⟩ := hq
    cases hv9
    have hS1 : va_S (hr_N H) H U'.heap (locs ++ L) := by
      rw [e1]
      refine ⟨hF.1, fun q h1 h2 => hF.2 q h1 (fun z => h2 (hA1 q z)), fun q hq => ?_⟩
      rcases List.mem_append.mp hq with h | h
      · exact hS.2.2 q h
      · exact hA1 _ (hL q h)
    obtain ⟨t2, a2, b2⟩ := kk v U'.heap (locs ++ L) (by rw [e1]; exact hp) hS1 U' rfl X'
    refine ⟨t2, ?_, b2⟩
    jvm_step X.here [hexec, hdc, invokevirtual.wp_ready (e := e) (s := T) (r := tgt) (m := tgt) (k := kT) (mk := kT) (rmeth := metht) (meth := metht) (a := b) (args := As) (rest := rest) (cell := cellB) (f := F0 m pc ls (As.reverse ++ .ref b :: rest)) X.here.top (href T X.warmed) (hready _ X.warmed) hkT hmtT (signaturePolymorphic_of_name (by rw [hkTn]; exact hd) _) hsti (by rw [hsig] at hlen; exact (Option.some.inj hlen).symm) rfl (by rw [hT]; exact hcB) (fun q => by rw [hvB]; exact fun z => nomatch z) hsel hmtT habi hkT (hitf _ hkT)]
    intro acts
    rw [doInvoke_state]
    exact st.trans a2
  · exact hq.1.elim
/-- .. and its end -/
theorem lm_zret {P : Option Value → Heap → Prop} {mc ms : Nat} {v : Int32} {ty : FieldType} {H1 : Heap} (hexec : p.tables.exec = Jvm.exec) (hb : c.code = cc) (hr : meth.sig.returnType = some ty) (hlk : meth.locks = false) (hn : narrow ty (.int v) = .int v) (hp : P (some (.int v)) H1) (hS : va_S (hr_N H) H H1 locs) (h1 : cells ≤ mc) (h2 : slots ≤ ms) (d : decode cc pc = .ok (.ireturn, 1)) : W p l e R s m args below meth c H1 locs cells slots (vx_MQ below (hr_Q H (hr_N H) P) (hr_QX H (hr_N H) hr_no) args s mc ms (hr_N H)) (F0 m pc ls [.int v]) := by
  refine vx_ret (W.widen h1 h2 ?_)
  exact W.zret hexec hb hr hn (fun t ht hW => ⟨⟨_, rfl, by rw [ht]; exact hp⟩, by rw [ht]; exact hr_SF hS⟩) hS.2.2 d hlk
end LMF

/-- an object of a made class: what it captured -/
def hr_La (D : va_G) (H : Heap) (t j : Nat) (sl : List Value) : Prop := ∃ cell : Cell, H[t]? = some cell ∧ cell.cls = D.1 (200 + j) ∧ cell.vm = .none ∧ ∀ (i : Nat) (v : Value), sl[i]? = some v → cell.slots[i]? = some v
theorem hr_La.x {D : va_G} {H H1 : Heap} {t j : Nat} {sl : List Value} (h : hr_La D H t j sl) (hx : hr_X H H1) : hr_La D H1 t j sl := by
  obtain ⟨cell, h1, h2⟩ := h
  exact ⟨cell, hx.get h1, h2⟩
theorem hr_La.kept {D : va_G} {H H1 : Heap} {t j : Nat} {sl : List Value} (h : hr_La D H t j sl) (hx : H1[t]? = H[t]?) : hr_La D H1 t j sl := by
  obtain ⟨cell, h1, h2⟩ := h
  exact ⟨cell, hx.trans h1, h2⟩
theorem hr_La.lt {D : va_G} {H : Heap} {t j : Nat} {sl : List Value} (h : hr_La D H t j sl) : t < H.size := by
  obtain ⟨cell, h1, h2⟩ := h
  exact hr_lt_of h1
/-- Object has no fields -/
theorem lm_obj {l : Launch} {D : va_G} {s0 : State} (Z : hr_Z l D s0) {vm' : Vm} (hW : s0.WarmedH vm') : ∀ (o : ClassId) (ok : Class), vm'.findClass "java/lang/Object" = some o → vm'.classes[o]? = some ok → ok.instanceTypes.size = 0 := by
  intro o ok ho hk
  obtain ⟨c, k, hc, hk1, -, -, -, hn⟩ := Cond.instantiable_spec (cls := "java/lang/Object") (n := 0) (s := s0) (args := #[]) (Z.2.2.1 _ (hr_inT [.instantiable "java/lang/Object" 0] [2474] (by decide +kernel) _ (by simp)) rfl)
  rw [hW.alike.findClass, hc] at ho
  cases ho
  obtain ⟨k2, hk2, he⟩ := hW.alike.2.2 _ _ hk1
  cases hk2.symm.trans hk
  rw [he]; exact hn
section LMR
variable {σ : Lambda.Shape} {DF : ClassFile} {fw : Method} {laid : Array Field × Array FieldType × Array FieldType} {kc : ByteArray} {nL : Nat} {ret : Option FieldType}
/-- the body's method, by the made class's pool -/
theorem lm_ready (file_is : σ.file "HabitRegistry$Data" = some DF) (second_is : ∀ ms, layoutMethods DF = some ms → ms[1]? = some fw) (laid_is : layoutFields DF 0 = some laid) (fc : (fw.code.map fun c => (c.code.data, c.maxLocals)) = some (kc.data, nL)) (ff : (fw.accessFlags, fw.sig.returnType) = (0x0001, ret))
    {l : Launch} {D : va_G} {s0 s' : State} (Z : hr_Z l D s0) {x : MethodName} {pc idx M ci nt cn : Nat} {cK : ClassId} {one : Option Addr} {y : MethodName} {tgt : MethodId} (hz : s0.lambdaAt? x pc idx σ = some (cK, one)) (hxc : x.cls = "HabitRegistry$Data")
    (hm : DF.constantPool[M]? = some (.methodref ci nt) ∧ DF.constantPool.className? ci = some "HabitRegistry$Data" ∧ DF.constantPool.nameAndType? nt = some (y.name, y.desc)) (hn : DF.constantPool[ci]? = some (.class_ cn) ∧ DF.constantPool.string? cn = some "HabitRegistry$Data" ∧ ci ≠ DF.thisClass)
    (hy : σ.implClass = y.cls ∧ σ.implName = y.name ∧ σ.implDesc.toString = y.desc ∧ σ.implItf = false ∧ y.cls = "HabitRegistry$Data") (hwz : s0.WarmedH s'.vm) (hnm : s'.methodNamed? y = some tgt) :
    (∀ vm' : Vm, s'.WarmedH vm' → vm'.methodReady cK M tgt) ∧ (∀ (e : Env) (T : State), s'.WarmedH T.vm → plainRef T e cK M) ∧ (∀ T : State, s'.WarmedH T.vm → namesAClass T cK M) := by
  have hd : y.cls ≠ "java/lang/invoke/MethodHandle" ∧ y.cls ≠ "java/lang/invoke/VarHandle" := by rw [hy.2.2.2.2]; decide
  have key : ∀ vm' : Vm, s'.WarmedH vm' → ∃ (k tk : Class) (file : ClassFile) (tc : ClassId), vm'.classes[cK]? = some k ∧ k.cf = some file ∧ file.constantPool = DF.constantPool ∧ vm'.methodReady cK M tgt ∧ vm'.classReady cK ci tc ∧ vm'.classes[tc]? = some tk ∧ tk.isInterface = false ∧ tk.name = y.cls := by
    intro vm' hv
    have hw := State.WarmedH.trans hwz hv
    obtain ⟨dcl, dk, hmade, hdk, hdn, hdf, -⟩ := lm_site hz hw
    obtain ⟨k, tk, file, methk, ck, tc, tg, hk, hkn, hkf, hkp, hmk, hck, hcb, hcl, hlk, hfl, hrt, htc, htk, hti, hask, hres, hfld, hty, hord⟩ := lm_made file_is second_is laid_is fc ff hdk (by rw [hdn, hxc]) hmade (lm_obj Z hw)
    rw [hy.1] at htc
    rw [hy.2.2.2.1] at hti
    have htn : tk.name = y.cls := by
      obtain ⟨k8, hk8, hn8⟩ := Vm.findClass_spec htc
      cases hk8.symm.trans htk
      exact hn8
    have hnv : (s'.setVm vm').methodNamed? y = some tgt := by rw [State.methodNamed?_setVm hv.alike]; exact hnm
    have htg : tg = tgt := by
      have h1 : (s'.setVm vm').methodFound? y.cls y.name y.desc = some tgt := State.methodFound?_of_named hnv hd
      have htc' : (s'.setVm vm').vm.findClass y.cls = some tc := htc
      have htk' : (s'.setVm vm').vm.classes[tc]? = some tk := htk
      simp only [State.methodFound?, htc', htk', Option.bind_eq_bind, Option.bind_some] at h1
      rw [hy.2.1, hy.2.2.1] at hask
      have hask' : ((methodIn tc y.name y.desc tk.isInterface none).ask { classPath := fun _ => none } (s'.setVm vm').vm).1 = .ok tg := hask
      rw [hask'] at h1
      exact Option.some.inj h1
    subst htg
    rw [hy.2.1, hy.2.2.1] at hask
    exact ⟨k, tk, file, tc, hk, hkf, hkp, ⟨k, hk, hres M _ (Lambda.resolvedOf_method hm.1 hm.2.1 (by rw [← hy.2.2.2.2]; exact htc) htk hm.2.2 hask)⟩, ⟨k, hk, hres ci _ (Lambda.resolvedOf_class hn.1 hn.2.2 hn.2.1 (by rw [← hy.2.2.2.2]; exact htc))⟩, htk, hti, htn⟩
  refine ⟨fun vm' hv => ?_, fun e T hv => ?_, fun T hv => ?_⟩
  · obtain ⟨k, tk, file, tc, h1, h2, h3, h4, h5, h6, h7, h8⟩ := key vm' hv
    exact h4
  · obtain ⟨k, tk, file, tc, h1, h2, h3, h4, h5, h6, h7, h8⟩ := key T.vm hv
    obtain ⟨b, hb⟩ := memberRef_ask' (e := e) (vm := T.vm) (d := cK) (index := M) h1 h2 (Or.inl (by rw [h3]; exact hm.1)) (by rw [h3]; exact hm.2.2)
    refine ⟨ci, _, _, b, tc, tk, hb, h5, h6, ?_⟩
    rw [Array.any_eq_false]
    intro i hi
    rw [signaturePolymorphic_of_name (by rw [h8]; exact hd)]
    simp
  · obtain ⟨k, tk, file, tc, h1, h2, h3, h4, h5, h6, h7, h8⟩ := key T.vm hv
    exact ⟨k, file, ci, nt, tc, tk, h1, h2, by rw [h3]; exact hm.1, h5, h6, h7⟩
/-- a captured value's field, by the made class's pool -/
theorem lm_fready (file_is : σ.file "HabitRegistry$Data" = some DF) (second_is : ∀ ms, layoutMethods DF = some ms → ms[1]? = some fw) (laid_is : layoutFields DF 0 = some laid) (fc : (fw.code.map fun c => (c.code.data, c.maxLocals)) = some (kc.data, nL)) (ff : (fw.accessFlags, fw.sig.returnType) = (0x0001, ret))
    {l : Launch} {D : va_G} {s0 s' : State} (Z : hr_Z l D s0) {x : MethodName} {pc idx F a b i : Nat} {cK : ClassId} {one : Option Addr} {nm ty : String} (hz : s0.lambdaAt? x pc idx σ = some (cK, one)) (hxc : x.cls = "HabitRegistry$Data")
    (hf : DF.constantPool[F]? = some (.fieldref a b) ∧ DF.constantPool.nameAndType? b = some (nm, ty) ∧ laid.1.findIdx? (·.name == nm) = some i ∧ (laid.1[i]?).map (fun f => (f.isStatic, f.slot)) = some (false, i)) (hwz : s0.WarmedH s'.vm) :
    ∃ f : Field, (∀ vm' : Vm, s'.WarmedH vm' → vm'.fieldReady cK F cK f) ∧ f.isStatic = false ∧ f.slot = i := by
  obtain ⟨g0, hg0, hp0⟩ := Option.map_eq_some_iff.mp hf.2.2.2
  simp only [Prod.mk.injEq] at hp0
  refine ⟨g0, fun vm' hv => ?_, hp0.1, hp0.2⟩
  have hw := State.WarmedH.trans hwz hv
  obtain ⟨dcl, dk, hmade, hdk, hdn, hdf, -⟩ := lm_site hz hw
  obtain ⟨k, tk, file, methk, ck, tc, tg, hk, hkn, hkf, hkp, hmk, hck, hcb, hcl, hlk, hfl, hrt, htc, htk, hti, hask, hres, hfld, hty, hord⟩ := lm_made file_is second_is laid_is fc ff hdk (by rw [hdn, hxc]) hmade (lm_obj Z hw)
  exact ⟨k, i, k, hk, hres F _ (Lambda.resolvedOf_field hf.1 hf.2.1 hf.2.2.1), hk, hfld i _ hg0⟩
end LMR
