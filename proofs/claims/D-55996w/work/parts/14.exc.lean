/-! OWN EXCEPTIONS: the call of Exception's constructor on an object of an own class, as one row -/
section EXI
variable {p : Program} {l : Launch} {e : Env} {R : Room} {s : State} {m : MethodId} {args : Array Value} {below : List Frame} {meth : Method} {c : Code} {locs : List Loc} {cells slots : Nat}
theorem hr_back8 {T S : State} {R' : Room} {L : List Loc} {k n : Nat} (X : Stand p l e R s m args below meth c T locs cells slots) (Y : Stand p l e R' ((T.setVm s.vm).setFrames (.invoking m args :: below)) m args below meth c T [] 0 0) (Z : Stand p l e R' ((T.setVm s.vm).setFrames (.invoking m args :: below)) m args below meth c S L k n) :
    Stand p l e R s m args below meth c S (locs ++ L) (cells + k) (slots + n) := by
  have hW0 : s.WarmedH ((T.setVm s.vm).setFrames (.invoking m args :: below)).vm := State.WarmedH.refl s
  refine { admits := X.admits, cas := X.cas, clock := X.clock, frames := X.frames, room := X.room, hears := X.hears, method := X.method, code := X.code, here := Z.here, tail := Z.tail, warmed := State.WarmedH.trans hW0 Z.warmed, limits := Z.limits.trans (Y.limits.symm.trans X.limits), bytes := Z.bytes.trans (Y.bytes.symm.trans X.bytes), same := ?_ }
  obtain ⟨e1, e2⟩ := Z.same
  rw [State.setFrames_setFrames] at e1
  have h2 : (T.setVm s.vm).sameButNew (S.setVm s.vm) L k n := ⟨e1, e2⟩
  exact X.same.trans h2
end EXI
/-- the words of the call but two -/
def hr_xat (own : String) (ic : Nat) (X : String) : List Cond := Bundle.throwableAtoms ++ Bundle.chain0Atoms "java/lang/Exception" [] ++ [.methodLink own ic (Bundle.init0 "java/lang/Exception"), .selects X Bundle.tFill0 Bundle.tFill0, .selects X Bundle.tFill Bundle.tFill, .lays X Bundle.tN "cause" "Ljava/lang/Throwable;", .lays X Bundle.tN "stackTrace" Bundle.steD, .lays X Bundle.tN "suppressedExceptions" Bundle.listD, .fieldLink Bundle.tN 198 Bundle.tN "backtrace" "Ljava/lang/Object;", .lays Bundle.tN Bundle.tN "backtrace" "Ljava/lang/Object;", .lays X Bundle.tN "backtrace" "Ljava/lang/Object;"]
def hr_xats (own : String) (ic : Nat) (X : String) : List Cond := (hr_xat own ic X).filter vx_no
def hr_isD (w : Cond) : Bool := match w with
  | .declares _ => true
  | .castable _ _ => true
  | _ => false
theorem hr_isD_ot {w : Cond} (h : (goodWord w || hr_isD w) = true) : vx_ot w = true := by
  unfold vx_ot
  cases hg : goodWord w with
  | true => simp
  | false =>
    rw [hg, Bool.false_or] at h
    cases w <;> first | rfl | exact absurd (show false = true from h) (by decide)
/-- nobody holds the object's monitor -/
def hr_Mo (H : Heap) (a : Nat) : Prop := ∃ cell : Cell, H[a]? = some cell ∧ cell.monitor.owner = none ∧ cell.monitor.count = 0
section HEXI
variable {l : Launch} {D : va_G} {s0 : State} {own : String} {ret : Option FieldType} {nL : Nat}
variable {p : Program} {e : Env} {R : Room} {s : State} {m : MethodId} {args : Array Value} {below : List Frame} {meth : Method} {c : Code} {H : Heap} {locs : List Loc} {cells slots : Nat} {Q : State → Prop}
variable {cc : ByteArray} {pc : Nat} {ls : Array Slot} {rest : List Value} {A : Nat → Prop} {H0 : Heap}
theorem hr_C.tb (C : hr_C l D s0 H0 A p s m args meth c cc nL own ret) {w : Cond} (h : w ∈ lw_tbl) (g : (goodWord w || hr_isD w) = true) : w.before args s = true := by
  cases hg : goodWord w with
  | true => exact C.w w (List.mem_filter.mpr ⟨h, hg⟩)
  | false =>
    rw [hg, Bool.false_or] at g
    cases w <;> first | exact absurd (show false = true from g) (by decide) | skip
    · exact va_Nw.use rfl (C.dc h)
    · exact va_Nw.use rfl (C.cs h)
theorem hr_C.fw5 {CC : String} {x y : MethodName} (C : hr_C l D s0 H0 A p s m args meth c cc nL own ret) (hm : ∀ w ∈ ([.declares x, .interfaceMethod x.cls x.cls x.name x.desc, .publicMethod y, .unhidden CC x.name x.desc, .castable CC x.cls] : List Cond), w ∈ lw_tbl) (hx : x.cls ≠ "java/lang/invoke/MethodHandle" ∧ x.cls ≠ "java/lang/invoke/VarHandle") : va_Fw CC x y s :=
  va_Fw.moved hx C.E.1.alike ⟨C.Z.2.2.1 _ (hm _ (by simp)) rfl, C.Z.2.2.1 _ (hm _ (by simp)) rfl, C.Z.2.2.1 _ (hm _ (by simp)) rfl, C.Z.2.2.1 _ (hm _ (by simp)) rfl, C.Z.2.2.1 _ (hm _ (by simp)) rfl⟩
/-- words by their places -/
theorem hr_inT (ws : List Cond) (ps : List Nat) (hp : ws = ps.filterMap (fun i => lw_tbl[i]?)) : ∀ w ∈ ws, w ∈ lw_tbl := by
  intro w h
  rw [hp] at h
  obtain ⟨i, -, hi⟩ := List.mem_filterMap.mp h
  exact List.mem_of_getElem? hi
set_option maxHeartbeats 4000000 in
theorem hr_exinit {C' : String} {T0 : u_T} {N ci ic a : Nat} (hin : ∀ w ∈ u_ws C' T0 N, w ∈ lw_all) (ty0 : Nat → FieldType) (hty : ∀ k, k < N → parseFieldDescriptor (T0 k).2.2.1 = some (ty0 k)) (hnm : ∀ a, a < N → ∀ b, b < N → a ≠ b → (T0 a).2.1 ≠ (T0 b).2.1)
    (hc : hr_cl[ci]? = some (C', T0, N)) (hN : 6 < N) (hT1 : T0 1 = (Bundle.tN, "cause", "Ljava/lang/Throwable;", false)) (hT2 : T0 2 = (Bundle.tN, "stackTrace", Bundle.steD, false)) (hT3 : T0 3 = (Bundle.tN, "suppressedExceptions", Bundle.listD, false)) (hT5 : T0 5 = (Bundle.tN, "backtrace", "Ljava/lang/Object;", false))
    (hat : ∀ w ∈ hr_xats own ic C', w ∈ lw_tbl) (hgood : ∀ w ∈ hr_xats own ic C', (goodWord w || hr_isD w) = true)
    (C : hr_C l D s0 H0 A p s m args meth c cc nL own ret) {fs : List Value} (hO : hr_O D H a ci fs) (hlen : 6 < fs.length) (hnull : vp_V fs 5 = .null) (hmo : hr_Mo H a) (ha : A a) (hS : va_S A H0 H locs) (hls : ls.size = nL)
    (d : decode cc pc = .ok (.invokespecial ic, 3)) (hRf : 3 < R.frames) (hRl : (rest.map fun v => v.category).sum + 54 ≤ R.locals) (hRc : cells ≤ R.cells ∧ slots ≤ R.slots)
    (kk : ∀ (H1 : Heap) (locs1 : List Loc) (v2 v3 : Value), hr_O D H1 a ci ((((fs.set 1 (.ref a)).set 2 v2).set 3 v3).set 2 v2) → H1.size = H.size → (∀ q : Nat, q ≠ a → H1[q]? = H[q]?) → va_S A H0 H1 locs1 → W p l e R s m args below meth c H1 locs1 cells slots Q (F0 m (pc + 3) ls rest)) :
    W p l e R s m args below meth c H locs cells slots Q (F0 m pc ls (.ref a :: rest)) := by
  intro T' hT X
  have htr : e.platform.stackTraces = false := (show e.platform.stackTraces = l.stackTraces by rw [X.admits.platform]).trans C.Z.1
  have Yb := vx_rebase X (R' := { frames := R.frames, locals := R.locals, cells := 0, slots := 0 }) (Nat.le_refl _) (Nat.le_refl _) (by have := hRc.1; simpa using this) (by have := hRc.2; simpa using this)
  obtain ⟨s', hA⟩ : ∃ z, z = (T'.setVm s.vm).setFrames (.invoking m args :: below) := ⟨_, rfl⟩
  rw [← hA] at Yb
  have hvm : s'.vm = s.vm := by rw [hA]; rfl
  have hhp : s'.heap = H := by rw [hA]; exact hT
  have hW0 : s.WarmedH s'.vm := by rw [hvm]; exact State.WarmedH.refl s
  have hat' : ∀ w ∈ hr_xats own ic C', w.before args s' = true := fun w hw => vx_ot_at hW0 hvm.symm (hr_isD_ot (hgood w hw)) (hr_C.tb C (hat w hw) (hgood w hw))
  have hS0 : va_S A s.heap H locs := by rw [C.h0]; exact hS
  have hU' : vx_Zq Bundle.tN "UNASSIGNED_STACK" Bundle.steD A s' s'.heap := by rw [hhp]; exact vx_Zq.moved hW0.alike ((hr_Zqup C.z.2.2.1 C).kept hS0.2.1)
  have hN' : vx_Zq Bundle.tN "SUPPRESSED_SENTINEL" Bundle.listD A s' s'.heap := by rw [hhp]; exact vx_Zq.moved hW0.alike ((hr_Zqup C.z.2.2.2.1 C).kept hS0.2.1)
  have h : ∀ w ∈ hr_xat own ic C', w.before args s' = true := vx_own hat' (vx_isRefq hU'.1) (vx_isRefq hN'.1) hU'.2.word hN'.2.word
  have a' : ∀ x, x ∈ hr_xat own ic C' → x.holds args s' none s' [] = true := fun x hx => h x hx
  have hown' : s'.vm.findClass own = some m.cls := by rw [hvm]; exact C.ow
  have howns : e.platform.frameOwnsMonitors = true := by rw [X.admits.platform]
  have hfin : e.platform.finalization = false := by rw [X.admits.platform]
  have hpl : e.platform.magicAccessors = ({} : Platform).magicAccessors := by rw [X.admits.platform]
  obtain ⟨T, Z, L, LZ, Y⟩ := ThrowableC.of_atoms (args := args) howns hfin hpl (fun x hx => h x (by simp [hr_xat, hx]))
  obtain ⟨P1, Ps, hlen9, L1, hL, hP1m, hlink1, hlink⟩ := Bundle.chain0 (args := args) hpl Y.init0 [] "java/lang/Exception" (by decide) (fun n hn => nomatch hn) (fun x hx => h x (by simp [hr_xat, hx]))
  have hK' : va_K D hr_cl (hr_tys D) s' := va_K.moved hW0.alike C.K
  obtain ⟨hS9, hfc, kC, hkC, hkind⟩ := hK'.1 ci _ hc
  have hsel0 : selectMethod e.platform s'.vm (D.1 ci) T.fill0 = .method T.fill0 := by
    obtain ⟨c2, r2, m2, q1, q2, q3, q4, -⟩ := Cond.selects_spec (a' (.selects C' Bundle.tFill0 Bundle.tFill0) (by simp [hr_xat]))
    cases Option.some.inj (q1.symm.trans hfc)
    cases Option.some.inj (q2.symm.trans (State.methodFound?_of_named Y.fill0 (by decide)))
    cases Option.some.inj (q3.symm.trans Y.fill0)
    rw [Launch.admits_selectMethod X.admits]; exact q4
  have hselF : selectMethod e.platform s'.vm (D.1 ci) T.fill = .method T.fill := by
    obtain ⟨c2, r2, m2, q1, q2, q3, q4, -⟩ := Cond.selects_spec (a' (.selects C' Bundle.tFill Bundle.tFill) (by simp [hr_xat]))
    cases Option.some.inj (q1.symm.trans hfc)
    cases Option.some.inj (q2.symm.trans (State.methodFound?_of_named Y.fill (by decide)))
    cases Option.some.inj (q3.symm.trans Y.fill)
    rw [Launch.admits_selectMethod X.admits]; exact q4
  obtain ⟨cellS0, hcS0, hiss⟩ := Y.statics
  obtain ⟨u0, hu0⟩ := Cond.staticRefV Y.unassigned L.unassignedStatic L.statics hcS0 hiss (vx_isRefq hU'.1 : (Cond.isRef (.static Bundle.tN "UNASSIGNED_STACK" Bundle.steD)).before args s' = true)
  obtain ⟨sen, hsen⟩ := Cond.staticRefV Y.sentinel L.sentinelStatic L.statics hcS0 hiss (vx_isRefq hN'.1 : (Cond.isRef (.static Bundle.tN "SUPPRESSED_SENTINEL" Bundle.listD)).before args s' = true)
  obtain ⟨ci198, i198, fB, hk198, hg198, ha198, hsB, -, hnB, htB, hffB⟩ := Cond.ownField (t := .object "java/lang/Object") Y.found L.cls (by decide +kernel) (a' (.fieldLink Bundle.tN 198 Bundle.tN "backtrace" "Ljava/lang/Object;") (by simp [hr_xat])) (a' (.lays Bundle.tN Bundle.tN "backtrace" "Ljava/lang/Object;") (by simp [hr_xat])) e.platform hpl
  -- the object's cell, and its fields' places
  obtain ⟨r, h1, cell, q1, q2, q3, q4⟩ := hO
  have hr : r = (C', T0, N) := Option.some.inj (h1.symm.trans hc)
  subst hr
  obtain ⟨cell9, r1, hfree, hcount⟩ := hmo
  cases Option.some.inj (q1.symm.trans r1)
  have place : ∀ (k : Nat) (n dd : String) (ff : Bool) (cT : ClassId) (kT : Class) (i : Nat) (f : Field), k < N → T0 k = (Bundle.tN, n, dd, ff) → s'.fieldFound? Bundle.tN n dd = some (cT, kT, i, f) → f.slot = D.2 ci k := by
    intro k n dd ff cT kT i f hk e1 e2
    obtain ⟨cf, kf, fi, f9, hi, hsl⟩ := hS9 k hk
    have hi : s'.fieldFound? (T0 k).1 (T0 k).2.1 (T0 k).2.2.1 = some (cf, kf, fi, f9) := hi
    rw [e1] at hi
    cases Option.some.inj (hi.symm.trans e2)
    exact hsl
  have pC := place 1 _ _ _ _ _ _ _ (by omega) hT1 Y.cause
  have pS := place 2 _ _ _ _ _ _ _ (by omega) hT2 Y.stack
  have pP := place 3 _ _ _ _ _ _ _ (by omega) hT3 Y.supp
  have pB := place 5 _ _ _ _ _ _ _ (by omega) hT5 hffB
  have hap := va_apart (own := own) (args := args) C.w hin ty0 hty hnm C.K hc
  obtain ⟨tyC, -⟩ := Cond.laysAt hfc hkC Y.cause (a' (.lays C' Bundle.tN "cause" "Ljava/lang/Throwable;") (by simp [hr_xat]))
  obtain ⟨tyS, -⟩ := Cond.laysAt hfc hkC Y.stack (a' (.lays C' Bundle.tN "stackTrace" Bundle.steD) (by simp [hr_xat]))
  obtain ⟨tyP, -⟩ := Cond.laysAt hfc hkC Y.supp (a' (.lays C' Bundle.tN "suppressedExceptions" Bundle.listD) (by simp [hr_xat]))
  have hneS : T.aS ≠ a := by
    intro e9
    rw [e9, hhp] at hcS0
    cases Option.some.inj (hcS0.symm.trans q1)
    rw [q3] at hiss
    exact nomatch hiss
  have takes : ∀ (f : Field) (v : Value) (k : Nat), k < N → f.slot = D.2 ci k → kC.instanceTypes[f.slot]? = some f.type → fits f.type v = true → Takes s' cell f v := by
    intro f v k hk e1 e2 e3
    refine ⟨by rw [e1]; exact k2_hasslot (q4 k hk), ?_⟩
    rw [q2, q3]
    exact (Takes.of_laid hkC hkind e2 e3).2
  have bC : D.2 ci 5 ≠ D.2 ci 1 := hap 5 1 (by omega) (by omega) (by decide)
  have bS : D.2 ci 5 ≠ D.2 ci 2 := hap 5 2 (by omega) (by omega) (by decide)
  have bP : D.2 ci 5 ≠ D.2 ci 3 := hap 5 3 (by omega) (by omega) (by decide)
  have hskip : SkipFacts T e.platform s' (fun u => u) u0 ((preparedCellV T.toThrowableT cell a u0 sen).withEntry T'.cur) :=
    ⟨{ ci198 := ci198, i198 := i198, fBack := fB }, ⟨hk198, hg198, ha198, hsB⟩, by
      have h5 := q4 5 (by show 5 < N; omega)
      rw [hnull] at h5
      simpa [preparedCellV, Cell.setSlot, Cell.withEntry, Array.getElem?_setIfInBounds, pC, pS, pP, pB, bC, bS, bP, bC.symm, bS.symm, bP.symm] using h5, fun _ _ => rfl⟩
  have hdc : decode c.code pc = .ok (.invokespecial ic, 3) := by rw [C.b]; exact d
  obtain ⟨tm, methC, cdC, kC9, vm₁, hnC, -, -, -, -, -, -, -, hW₁, st1⟩ := Steps.initCold (tb := p.tables) (e := e) (below := below) (s := s') (U := T') Yb.here C.x Yb.warmed hpl hown' (t := Bundle.init0 "java/lang/Exception") rfl rfl (Bundle.fit_spec (n := "java/lang/Exception") (by decide)).2
    (a' (.methodLink own ic (Bundle.init0 "java/lang/Exception")) (by simp [hr_xat])) (h (.instanceMethod (Bundle.init0 "java/lang/Exception")) (by simp [hr_xat, Bundle.chain0Atoms, Bundle.passAtoms])) (bytes := Bundle.five) (maxL := 1) (h (.code (Bundle.init0 "java/lang/Exception") Bundle.five 1 none) (by simp [hr_xat, Bundle.chain0Atoms, Bundle.passAtoms]))
    (f := F0 m pc ls (.ref a :: rest)) rfl (a := a) (rest := rest) rfl hdc
  cases Option.some.inj (hnC.symm.trans hP1m)
  have X₁ := Yb.noted hW₁
  obtain ⟨vm₂, X₂, st2⟩ := X₁.ctorPlainOffV C.x (g := F0 m pc ls rest) rfl (by show ls.size = _; rw [hls, C.ml]) T L Z LZ (P1 :: Ps)
    (fun P hP => by rcases List.mem_cons.mp hP with rfl | hP; exact L1; exact hL P hP) ⟨hlink1, hlink⟩ (u0 := u0) (sen := sen) (self := a) (cell := cell) (cellS := cellS0)
    (by show T'.heap[a]? = _; rw [hT]; exact q1) (fun k => by rw [q3]; exact fun z => nomatch z) (by rw [q3]; exact fun z => nomatch z) hfree hcount (by rw [q2]; exact hsel0) (by rw [q2]; exact hselF) (by show T'.heap[T.aS]? = _; rw [hT, ← hhp]; exact hcS0) hneS (fun hu => by rw [hu] at hiss; exact nomatch hiss) hu0 hsen
    (takes _ _ 1 (by omega) pC tyC (by rw [Y.causeType]; rfl)) (takes _ _ 2 (by omega) pS tyS (by rw [Y.stackType]; exact fits_refV_array _ u0)) (takes _ _ 3 (by omega) pP tyP (by rw [Y.suppType]; exact fits_refV_object _ sen)) Y.objLocals hskip htr [] hdc
    (by simp only [List.length_cons, hlen9]; exact hRf) (by simp only [List.length_cons, hlen9]; show 2 * 0 + _ + _ ≤ R.locals; simp only [List.length_nil]; omega)
  have hlt : a < T'.heap.size := by rw [hT]; exact (Array.getElem?_eq_some_iff.mp q1).1
  generalize hce : (preparedCellV T.toThrowableT cell a u0 sen).setSlot T.fStack.slot u0.v = ce at X₂ st2
  subst hA
  have X5 := hr_back8 X Yb X₂
  have hh : (((T'.setVm vm₁).setVm vm₂).setCell a ce).heap[a]? = some ce := heapAt_setCell_self (s := (T'.setVm vm₁).setVm vm₂) ce hlt
  have hoth : ∀ q : Nat, q ≠ a → (((T'.setVm vm₁).setVm vm₂).setCell a ce).heap[q]? = H[q]? := by
    intro q hq
    rw [← hT]
    exact heapAt_setCell_ne (s := (T'.setVm vm₁).setVm vm₂) ce (Ne.symm hq)
  have hsz : (((T'.setVm vm₁).setVm vm₂).setCell a ce).heap.size = H.size := by
    rw [← hT]
    simp [State.setCell]
  have hO1 : hr_O D (((T'.setVm vm₁).setVm vm₂).setCell a ce).heap a ci ((((fs.set 1 (.ref a)).set 2 u0.v).set 3 sen.v).set 2 u0.v) := by
    refine ⟨(C', T0, N), hc, ?_⟩
    have t1 := t_set q4 hap (k := 1) (by show 1 < N; omega) (.ref a)
    have t2 := t_set t1 hap (k := 2) (by show 2 < N; omega) u0.v
    have t3 := t_set t2 hap (k := 3) (by show 3 < N; omega) sen.v
    have t4 := t_set t3 hap (k := 2) (by show 2 < N; omega) u0.v
    rw [← pC, ← pS, ← pP] at t4
    refine t_OB.to (V := updV (updV (updV (updV (vp_V fs) 1 (.ref a)) 2 u0.v) 3 sen.v) 2 u0.v) ⟨ce, hh, by rw [← hce]; exact q2, by rw [← hce]; exact q3, by rw [← hce]; exact t4⟩ (fun j _ => ?_)
    have w1 : vp_V (fs.set 1 (.ref a)) = updV (vp_V fs) 1 (.ref a) := funext fun j => (vp_updV_set (by omega) _ j).symm
    have w2 : vp_V ((fs.set 1 (.ref a)).set 2 u0.v) = updV (updV (vp_V fs) 1 (.ref a)) 2 u0.v := by rw [← w1]; exact funext fun j => (vp_updV_set (by simp; omega) _ j).symm
    have w3 : vp_V (((fs.set 1 (.ref a)).set 2 u0.v).set 3 sen.v) = updV (updV (updV (vp_V fs) 1 (.ref a)) 2 u0.v) 3 sen.v := by rw [← w2]; exact funext fun j => (vp_updV_set (by simp; omega) _ j).symm
    rw [← w3]
    exact vp_updV_set (by simp; omega) _ j
  obtain ⟨t, a1, b1⟩ := kk _ _ u0.v sen.v hO1 hsz hoth ⟨by rw [hsz]; exact hS.1, fun q h1 h2 => (hoth q (fun e9 => h2 (by rw [e9]; exact ha))).trans (hS.2.1 q h1 h2), fun q hq => by
      rcases List.mem_append.mp hq with h9 | h9
      · exact hS.2.2 q h9
      · simp only [List.nil_append, List.mem_cons, List.not_mem_nil, or_false] at h9
        rcases h9 with rfl | rfl | rfl | rfl <;> exact ha⟩ _ rfl X5
  refine ⟨t, st1 _ (fun acts => ?_), b1⟩
  rw [doInvoke_state]
  exact st2 _ a1

/-- 'throw new E()' of a class of the platform -/
theorem hr_throw {P : Option Value → Heap → Prop} {PX : String → Addr → Heap → Prop} {cls : String} (names : List String) {ik ic mc ms : Nat}
    (hcls : Bundle.fit cls = true) (hnames : ∀ n ∈ names, Bundle.fit n = true) (hk : Cond.classLink own ik cls ∈ lw_all) (hini : Cond.initialized cls ∈ lw_all)
    (hat : ∀ w ∈ vx_at0 own ic cls names, w ∈ lw_tbl) (hgood : ∀ w ∈ vx_at0 own ic cls names, (goodWord w || hr_isD w) = true)
    (C : hr_C l D s0 H0 A p s m args meth c cc nL own ret) (hQ : Q = vx_MQ below (hr_Q H0 A P) (hr_QX H0 A PX) args s mc ms A) (hS : va_S A H0 H locs) (hls : ls.size = nL)
    (d0 : decode cc pc = .ok (.new ik, 3)) (d3 : decode cc (pc + 3) = .ok (.dup, 1)) (d4 : decode cc (pc + 4) = .ok (.invokespecial ic, 3)) (d7 : decode cc (pc + 7) = .ok (.athrow, 1))
    (hout : ∀ x ∈ c.exceptionTable.toList, covers x (pc + 7) = false)
    (hRframes : names.length + 3 < R.frames) (hRlocals : (rest.map fun v => v.category).sum + (13 * (names.length + 1) + 42) ≤ R.locals) (hRcells : cells + 1 ≤ R.cells) (hRslots : slots + 6 ≤ R.slots)
    (hp : ∀ (q : Addr) (H1 : Heap), hr_X H H1 → PX cls q H1) (hc : cells + 1 ≤ mc) (hs : slots + 6 ≤ ms) :
    W p l e R s m args below meth c H locs cells slots Q (F0 m pc ls rest) := by
  subst hQ
  have g1 : vx_ot (Cond.classLink own ik cls) = true := hr_isD_ot (by rw [(List.mem_filter.mp hk).2]; rfl)
  have g2 : vx_ot (Cond.initialized cls) = true := hr_isD_ot (by rw [(List.mem_filter.mp hini).2]; rfl)
  refine vx_throw0 (A := A) C.x C.b C.Z.1 C.ow hcls hnames (C.w _ hk) (C.w _ hini) (fun w hw => hr_C.tb C (hat w hw) (hgood w hw)) (fun w hw => ?_) (hr_Zqup C.z.2.2.1 C) (hr_Zqup C.z.2.2.2.1 C) (by rw [C.h0]; exact hS) (by rw [C.ml]; exact hls) d0 d3 d4 d7 hout hRframes hRlocals hRcells hRslots C.lk (fun q t _ h1 h2 => ?_) hS.2.2 hc hs
  · rcases List.mem_cons.mp hw with rfl | hw
    · exact g1
    · rcases List.mem_cons.mp hw with rfl | hw
      · exact g2
      · exact hr_isD_ot (hgood w hw)
  · have hX : hr_X H t.heap := ⟨h1, fun q hq _ => h2 q hq⟩
    exact ⟨hp q t.heap hX, Nat.le_trans hS.1 h1, fun q hq hA => (h2 q (Nat.lt_of_lt_of_le hq hS.1)).trans (hS.2.1 q hq hA)⟩
/-- 'new', and nobody holds the new object -/
theorem hr_newM {C' : String} {T : u_T} {N N' ci index : Nat} (hin : ∀ w ∈ u_ws C' T N, w ∈ lw_all) (ty : Nat → FieldType) (hty : ∀ k, k < N → parseFieldDescriptor (T k).2.2.1 = some (ty k)) (hcl : Cond.classLink own index C' ∈ lw_all) (hinst : Cond.instantiable C' N' ∈ lw_all) (hini : Cond.initialized C' ∈ lw_all) (hc : hr_cl[ci]? = some (C', T, N)) (fs : List Value) (hfs : ∀ j, j < N → defaultValue (ty j) = vp_V fs j) (C : hr_C l D s0 H0 A p s m args meth c cc nL own ret) (hcells : cells + 1 ≤ R.cells) (hslots : slots + N' ≤ R.slots) (hS : va_S A H0 H locs) (d : decode cc pc = .ok (.new index, 3))
    (kk : ∀ (q : Nat) (H1 : Heap), q = H.size → hr_O D H1 q ci fs ∧ hr_Mo H1 q → hr_X H H1 → H1.size = H.size + 1 → va_S A H0 H1 locs → W p l e R s m args below meth c H1 locs (cells + 1) (slots + N') Q (F0 m (pc + 3) ls (.ref q :: rest))) : W p l e R s m args below meth c H locs cells slots Q (F0 m pc ls rest) := by
  have hKc := C.K.1 ci _ hc
  have hfc : s.vm.findClass C' = some (D.1 ci) := hKc.2.1
  refine W.newcK C.x C.b C.ow (C.w _ hcl) (C.w _ hinst) (C.w _ hini) rfl d hcells hslots hfc rfl fun H1 kC hk e z o => ?_
  refine kk _ H1 rfl ⟨⟨_, hc, ?_⟩, ⟨_, e, rfl, rfl⟩⟩ ⟨by omega, fun q hq _ => o q hq⟩ z (va_S.push hS z o)
  have h1 := u_born (args := args) (H := H1) (o := H.size) ty C.w hin hKc hk e hty
  exact h1.to hfs
/-- an exception of the platform, made and kept -/
theorem hr_make {cls : String} (names : List String) {ik ic ci : Nat} {T0 : u_T}
    (hcls : Bundle.fit cls = true) (hnames : ∀ n ∈ names, Bundle.fit n = true) (hk : Cond.classLink own ik cls ∈ lw_all) (hini : Cond.initialized cls ∈ lw_all)
    (hat : ∀ w ∈ vx_at0 own ic cls names, w ∈ lw_tbl) (hgood : ∀ w ∈ vx_at0 own ic cls names, (goodWord w || hr_isD w) = true)
    (C : hr_C l D s0 H0 A p s m args meth c cc nL own ret) (hAN : ∀ q, H0.size ≤ q → A q) (hS : va_S A H0 H locs) (hls : ls.size = nL)
    (d0 : decode cc pc = .ok (.new ik, 3)) (d3 : decode cc (pc + 3) = .ok (.dup, 1)) (d4 : decode cc (pc + 4) = .ok (.invokespecial ic, 3)) (hc : hr_cl[ci]? = some (cls, T0, 0))
    (hRframes : names.length + 3 < R.frames) (hRlocals : (rest.map fun v => v.category).sum + (13 * (names.length + 1) + 42) ≤ R.locals) (hRcells : cells + 1 ≤ R.cells) (hRslots : slots + 6 ≤ R.slots)
    (kk : ∀ (q : Nat) (H1 : Heap), hr_O D H1 q ci [] → va_S A H0 H1 locs → W p l e R s m args below meth c H1 locs (cells + 1) (slots + 6) Q (F0 m (pc + 7) ls (.ref q :: rest))) :
    W p l e R s m args below meth c H locs cells slots Q (F0 m pc ls rest) := by
  have g1 : vx_ot (Cond.classLink own ik cls) = true := hr_isD_ot (by rw [(List.mem_filter.mp hk).2]; rfl)
  have g2 : vx_ot (Cond.initialized cls) = true := hr_isD_ot (by rw [(List.mem_filter.mp hini).2]; rfl)
  refine vx_make0 (ws := []) (A := A) C.x C.b C.Z.1 C.ow hcls hnames (C.w _ hk) (C.w _ hini) (fun w hw => hr_C.tb C (hat w hw) (hgood w hw)) (fun w hw => ?_) (hr_Zqup C.z.2.2.1 C) (hr_Zqup C.z.2.2.2.1 C) (by rw [C.h0]; exact hS) (by rw [C.ml]; exact hls) d0 d3 d4 C.K (fun k q h => by simp at h) ⟨fun i j p q h => by simp at h, fun k q h => by simp at h⟩ (by rw [C.h0]; exact hAN) hc hRframes hRlocals hRcells hRslots (fun q H1 hP _ hS1 => ?_)
  · rcases List.mem_cons.mp hw with rfl | hw
    · exact g1
    · rcases List.mem_cons.mp hw with rfl | hw
      · exact g2
      · exact hr_isD_ot (hgood w hw)
  · exact kk q H1 (hP 0 _ rfl) (by rw [← C.h0]; exact hS1)
end HEXI
/-- the registry's own failures, as objects -/
def hr_Rj (D : va_G) (H : Heap) (a : Nat) (og : Option Nat) (r dt : Int) : Prop := ∃ v1 v2 v3 v4 v5 v6 : Value, hr_O D H a 7 [va_rf og, v1, v2, v3, v4, v5, v6, .int (hr_I r), .int (hr_I dt)]
def hr_Sy (D : va_G) (H : Heap) (a : Nat) (o : Int) : Prop := ∃ v0 v1 v2 v3 v4 v5 v6 : Value, hr_O D H a 9 [v0, v1, v2, v3, v4, v5, v6, .int (hr_I o)]
def hr_Bc (D : va_G) (H : Heap) (a : Nat) : Prop := ∃ v0 v1 v2 v3 v4 v5 v6 : Value, hr_O D H a 6 [v0, v1, v2, v3, v4, v5, v6]
