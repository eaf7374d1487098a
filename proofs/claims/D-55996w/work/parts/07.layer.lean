/-! THE LAYER: ints by Int, the heap's relation, objects and arrays one by one, the start's knowledge, contracts over one heap, their rows -/
def hr_I (z : Int) : Int32 := Int32.ofInt z
abbrev hr_R (z : Int) : Prop := -2147483648 ≤ z ∧ z < 2147483648
theorem hr_toInt {z : Int} (h : hr_R z) : (hr_I z).toInt = z := Int32.toInt_ofInt_of_le h.1 h.2
theorem hr_ofI (x : Int32) : hr_I x.toInt = x := Int32.ofInt_toInt x
theorem hr_rng (x : Int32) : hr_R x.toInt := ⟨Int32.le_toInt x, Int32.toInt_lt x⟩
theorem hr_add (a b : Int) : hr_I a + hr_I b = hr_I (a + b) := (Int32.ofInt_add a b).symm
theorem hr_sub (a b : Int) : hr_I a - hr_I b = hr_I (a - b) := (Int32.ofInt_sub a b).symm
theorem hr_mul (a b : Int) : hr_I a * hr_I b = hr_I (a * b) := (Int32.ofInt_mul a b).symm
theorem hr_le {a b : Int} (ha : hr_R a) (hb : hr_R b) : hr_I a ≤ hr_I b ↔ a ≤ b := by rw [Int32.le_iff_toInt_le, hr_toInt ha, hr_toInt hb]
theorem hr_lt {a b : Int} (ha : hr_R a) (hb : hr_R b) : hr_I a < hr_I b ↔ a < b := by rw [Int32.lt_iff_toInt_lt, hr_toInt ha, hr_toInt hb]
theorem hr_eq {a b : Int} (ha : hr_R a) (hb : hr_R b) : hr_I a = hr_I b ↔ a = b := ⟨fun h => by have := congrArg Int32.toInt h; rwa [hr_toInt ha, hr_toInt hb] at this, fun h => by rw [h]⟩
theorem hr_0 : hr_I 0 = 0 := by decide
theorem hr_n (n : Nat) : Int32.ofNat n = hr_I (n : Int) := by
  apply Int32.toBitVec_inj.mp
  show (BitVec.ofNat 32 n) = (BitVec.ofInt 32 (n : Int))
  rw [BitVec.ofInt_natCast]
theorem hr_clamp {z : Int} (h : hr_R z) : (hr_I z).toNatClampNeg = z.toNat := by
  show (hr_I z).toInt.toNat = z.toNat
  rw [hr_toInt h]
theorem hr_in {z : Int} {n : Nat} (h0 : 0 ≤ z) (h : z < n) (hn : n < 2147483648) : vp_in (hr_I z) n := by
  rw [vp_in_iff, hr_toInt ⟨by omega, by omega⟩]
  exact ⟨h0, h⟩
def hr_t (b : Bool) : Int := if b then 1 else 0
theorem hr_t0 {b : Bool} : hr_t b = 0 ↔ b = false := by cases b <;> simp [hr_t]
theorem hr_t1 {b : Bool} : hr_t b = 1 ↔ b = true := by cases b <;> simp [hr_t]
theorem hr_tR (b : Bool) : hr_R (hr_t b) := by cases b <;> simp [hr_t, hr_R]
theorem hr_nz (b : Bool) : narrow .boolean (.int (hr_I (hr_t b))) = .int (hr_I (hr_t b)) := by cases b <;> rfl
theorem hr_fz (b : Bool) : fits .boolean (.int (hr_I (hr_t b))) = true := by cases b <;> rfl
theorem hr_nc {z : Int} (h : 0 ≤ z ∧ z < 65536) : narrow .char (.int (hr_I z)) = .int (hr_I z) ∧ fits .char (.int (hr_I z)) = true := by
  obtain ⟨k, rfl⟩ : ∃ k : Nat, z = k := ⟨z.toNat, by omega⟩
  have := pk_charN (q := k) (by omega)
  rwa [show nI k = hr_I (k : Int) from hr_n k] at this
def hr_u {α : Type} (f : Nat → α) (k : Nat) (x : α) : Nat → α := fun j => if j = k then x else f j
theorem hr_us {α : Type} (f : Nat → α) (k : Nat) (x : α) : hr_u f k x k = x := by simp [hr_u]
theorem hr_un {α : Type} (f : Nat → α) {k j : Nat} (x : α) (h : j ≠ k) : hr_u f k x j = f j := by simp [hr_u, h]
/-! the heap goes on: what was there stays but for A -/
def hr_F (A : Nat → Prop) (H H1 : Heap) : Prop := H.size ≤ H1.size ∧ ∀ q : Nat, q < H.size → ¬ A q → H1[q]? = H[q]?
def hr_N (H : Heap) : Nat → Prop := fun q => H.size ≤ q
abbrev hr_X (H H1 : Heap) : Prop := hr_F (hr_N H) H H1
theorem hr_F.rf {A : Nat → Prop} {H : Heap} : hr_F A H H := ⟨Nat.le_refl _, fun _ _ _ => rfl⟩
theorem hr_F.tr {A : Nat → Prop} {H H1 H2 : Heap} (h : hr_F A H H1) (h2 : hr_F A H1 H2) : hr_F A H H2 := ⟨Nat.le_trans h.1 h2.1, fun q a b => (h2.2 q (Nat.lt_of_lt_of_le a h.1) b).trans (h.2 q a b)⟩
theorem hr_F.mono {A B : Nat → Prop} {H H1 : Heap} (h : hr_F A H H1) (hAB : ∀ q, q < H.size → A q → B q) : hr_F B H H1 := ⟨h.1, fun q a b => h.2 q a fun z => b (hAB q a z)⟩
theorem hr_X.at {H H1 : Heap} (h : hr_X H H1) {q : Nat} (hq : q < H.size) : H1[q]? = H[q]? := h.2 q hq (Nat.not_le.mpr hq)
theorem hr_X.tr {H H1 H2 : Heap} (h : hr_X H H1) (h2 : hr_X H1 H2) : hr_X H H2 := ⟨Nat.le_trans h.1 h2.1, fun q a b => (h2.at (Nat.lt_of_lt_of_le a h.1)).trans (h.at a)⟩
theorem hr_lt_of {H : Heap} {q : Nat} {c : Cell} (h : H[q]? = some c) : q < H.size := (Array.getElem?_eq_some_iff.mp h).1
theorem hr_X.get {H H1 : Heap} (h : hr_X H H1) {q : Nat} {c : Cell} (hc : H[q]? = some c) : H1[q]? = some c := (h.at (hr_lt_of hc)).trans hc
theorem hr_F.get {A : Nat → Prop} {H H1 : Heap} (h : hr_F A H H1) {q : Nat} {c : Cell} (hc : H[q]? = some c) (hA : ¬ A q) : H1[q]? = some c := (h.2 q (hr_lt_of hc) hA).trans hc
theorem hr_SF {A : Nat → Prop} {H0 H : Heap} {locs : List Loc} (h : va_S A H0 H locs) : hr_F A H0 H := ⟨h.1, h.2.1⟩
theorem hr_SX {H0 H : Heap} {locs : List Loc} (h : va_S (hr_N H0) H0 H locs) : hr_X H0 H := ⟨h.1, h.2.1⟩
theorem va_S.push {A : Nat → Prop} {H0 H H1 : Heap} {locs : List Loc} (h : va_S A H0 H locs) (z : H1.size = H.size + 1) (o : ∀ q : Nat, q < H.size → H1[q]? = H[q]?) : va_S A H0 H1 locs := ⟨by have := h.1; omega, fun q a b => (o q (Nat.lt_of_lt_of_le a h.1)).trans (h.2.1 q a b), h.2.2⟩
/-! the classes of the system, their numbers -/
abbrev hr_cl : List vw_C := [(RX1, TX1, 7), (RX2, TX2, 10), (RX3, TX3, 20), (RX4, TX4, 4), (RX5, TX5, 6), (RX6, TX6, 4), (RX8, TX8, 7), (RX9, TX9, 9), (RX10, TX10, 3), (RX11, TX11, 8), (RJ2, TJ2, 3), (RJ3, TJ3, 4), (RJ9, TJ9, 4), (RJ10, TJ10, 4), (RJ17, TJ17, 0)]
abbrev hr_tys (D : va_G) : List (ClassId × FieldType) := [(D.1 100, .int), (D.1 101, .byte), (D.1 102, .char), (D.1 103, .long), (D.1 104, .double), (D.1 105, .object "java/lang/Object")]
/-- an object: of class number ci, its fields -/
def hr_O (D : va_G) (H : Heap) (a ci : Nat) (fs : List Value) : Prop := va_at D hr_cl (a, .inr (ci, fs)) H
/-- an array: class, length, contents -/
def hr_A (H : Heap) (a : Nat) (cA : ClassId) (n : Nat) (f : Nat → Value) : Prop := H[a]? = some (arrV cA n f)
abbrev hr_vi (g : Nat → Int) : Nat → Value := fun j => .int (hr_I (g j))
abbrev hr_vq (g : Nat → Option Nat) : Nat → Value := fun j => va_rf (g j)
theorem hr_O.lt {D : va_G} {H : Heap} {a ci : Nat} {fs : List Value} (h : hr_O D H a ci fs) : a < H.size := va_at.lt h
theorem hr_O.kept {D : va_G} {H H1 : Heap} {a ci : Nat} {fs : List Value} (h : hr_O D H a ci fs) (e : H1[a]? = H[a]?) : hr_O D H1 a ci fs := va_at.kept h e
theorem hr_O.x {D : va_G} {H H1 : Heap} {a ci : Nat} {fs : List Value} (h : hr_O D H a ci fs) (hx : hr_X H H1) : hr_O D H1 a ci fs := h.kept (hx.at h.lt)
theorem hr_O.f {A : Nat → Prop} {D : va_G} {H H1 : Heap} {a ci : Nat} {fs : List Value} (h : hr_O D H a ci fs) (hx : hr_F A H H1) (hA : ¬ A a) : hr_O D H1 a ci fs := h.kept (hx.2 a h.lt hA)
theorem hr_A.lt {H : Heap} {a n : Nat} {cA : ClassId} {f : Nat → Value} (h : hr_A H a cA n f) : a < H.size := hr_lt_of h
theorem hr_A.kept {H H1 : Heap} {a n : Nat} {cA : ClassId} {f : Nat → Value} (h : hr_A H a cA n f) (e : H1[a]? = H[a]?) : hr_A H1 a cA n f := e.trans h
theorem hr_A.x {H H1 : Heap} {a n : Nat} {cA : ClassId} {f : Nat → Value} (h : hr_A H a cA n f) (hx : hr_X H H1) : hr_A H1 a cA n f := h.kept (hx.at h.lt)
theorem hr_A.f {A : Nat → Prop} {H H1 : Heap} {a n : Nat} {cA : ClassId} {f : Nat → Value} (h : hr_A H a cA n f) (hx : hr_F A H H1) (hA : ¬ A a) : hr_A H1 a cA n f := h.kept (hx.2 a h.lt hA)
/-- objects of two classes are two -/
theorem hr_O.ne {D : va_G} {H : Heap} {a b ci cj : Nat} {fs gs : List Value} (h : hr_O D H a ci fs) (h2 : hr_O D H b cj gs) (hd : D.1 ci ≠ D.1 cj) : a ≠ b := by
  intro e
  subst e
  obtain ⟨_, _, cell, q1, q2, -⟩ := h
  obtain ⟨_, _, cell2, r1, r2, -⟩ := h2
  rw [q1] at r1
  cases r1
  exact hd (q2.symm.trans r2)
theorem hr_O.neA {D : va_G} {H : Heap} {a b ci n : Nat} {fs : List Value} {cA : ClassId} {f : Nat → Value} (h : hr_O D H a ci fs) (h2 : hr_A H b cA n f) (hd : D.1 ci ≠ cA) : a ≠ b := by
  intro e
  subst e
  obtain ⟨_, _, cell, q1, q2, -⟩ := h
  have h3 : H[a]? = some (arrV cA n f) := h2
  rw [q1] at h3
  cases h3
  exact hd q2.symm
theorem hr_A.ne {H : Heap} {a b n n2 : Nat} {cA cB : ClassId} {f g : Nat → Value} (h : hr_A H a cA n f) (h2 : hr_A H b cB n2 g) (hd : cA ≠ cB) : a ≠ b := by
  intro e
  subst e
  have h3 : some (arrV cA n f) = some (arrV cB n2 g) := Eq.trans (Eq.symm h) h2
  have h4 := congrArg Cell.cls (Option.some.inj h3)
  exact hd h4
/-- two pictures of one object -/
theorem hr_O.same {D : va_G} {H : Heap} {a ci : Nat} {C : String} {T : u_T} {N : Nat} {fs gs : List Value} (h : hr_O D H a ci fs) (h2 : hr_O D H a ci gs) (hc : hr_cl[ci]? = some (C, T, N)) {k : Nat} (hk : k < N) : vp_V fs k = vp_V gs k := by
  obtain ⟨r, e1, cell, q1, q2, q3, q4⟩ := h
  obtain ⟨r2, e2, cell2, r1, r3, r4, r5⟩ := h2
  rw [q1] at r1
  cases r1
  cases e1.symm.trans e2
  have hr : r = (C, T, N) := Option.some.inj (e1.symm.trans hc)
  subst hr
  exact Option.some.inj ((q4 k hk).symm.trans (r5 k hk))
/-! what holds at the law's start, and rides -/
def hr_E (s0 s : State) : Prop := s0.WarmedH s.vm ∧ hr_X s0.heap s.heap
/-- constants of the start, by number: 0 the empty Object[], 1 DigitOnes, 2 DigitTens, 3 Object[].class, 10.. string constants, 50.. lambdas' objects -/
abbrev hr_k (D : va_G) (k : Nat) : Nat := D.2 100 k
/-- the start's statics -/
def hr_Zh (D : va_G) (s0 : State) : Prop := va_Z "java/util/ArrayList" "DEFAULTCAPACITY_EMPTY_ELEMENTDATA" "[Ljava/lang/Object;" (.ref (hr_k D 0)) (hr_N s0.heap) s0 s0.heap ∧ hr_A s0.heap (hr_k D 0) (D.1 105) 0 (hr_vq fun _ => none) ∧
  vx_Zq Bundle.tN "UNASSIGNED_STACK" Bundle.steD (hr_N s0.heap) s0 s0.heap ∧ vx_Zq Bundle.tN "SUPPRESSED_SENTINEL" Bundle.listD (hr_N s0.heap) s0 s0.heap ∧ va_Mi "[Ljava/lang/Object;" (hr_k D 3) s0 ∧ va_Dc s0 ∧ hr_Zl D s0
def hr_Z (l : Launch) (D : va_G) (s0 : State) : Prop := l.stackTraces = false ∧ va_K D hr_cl (hr_tys D) s0 ∧ (∀ w ∈ lw_tbl, w.onTables = true → va_Nw w s0) ∧ va_AO "java/lang/Object" s0 ∧ hr_Zh D s0
def hr_C (l : Launch) (D : va_G) (s0 : State) (H0 : Heap) (A0 : Nat → Prop) (p : Program) (s : State) (m : MethodId) (args : Array Value) (meth : Method) (c : Code) (cc : ByteArray) (nL : Nat) (own : String) (ret : Option FieldType) : Prop :=
  p.tables.exec = Jvm.exec ∧ c.code = cc ∧ c.maxLocals = nL ∧ s.vm.findClass own = some m.cls ∧ (∀ w ∈ lw_all, w.before args s = true) ∧ meth.sig.returnType = ret ∧ meth.locks = false ∧ va_K D hr_cl (hr_tys D) s ∧ hr_E s0 s ∧ hr_Z l D s0 ∧ s.heap = H0 ∧ ∀ q, A0 q → s0.heap.size ≤ q
section HC
variable {l : Launch} {D : va_G} {s0 : State} {H0 : Heap} {A0 : Nat → Prop} {p : Program} {s : State} {m : MethodId} {args : Array Value} {meth : Method} {c : Code} {cc : ByteArray} {nL : Nat} {own : String} {ret : Option FieldType}
theorem hr_C.x (C : hr_C l D s0 H0 A0 p s m args meth c cc nL own ret) : p.tables.exec = Jvm.exec := C.1
theorem hr_C.b (C : hr_C l D s0 H0 A0 p s m args meth c cc nL own ret) : c.code = cc := C.2.1
theorem hr_C.ml (C : hr_C l D s0 H0 A0 p s m args meth c cc nL own ret) : c.maxLocals = nL := C.2.2.1
theorem hr_C.ow (C : hr_C l D s0 H0 A0 p s m args meth c cc nL own ret) : s.vm.findClass own = some m.cls := C.2.2.2.1
theorem hr_C.w (C : hr_C l D s0 H0 A0 p s m args meth c cc nL own ret) : ∀ w ∈ lw_all, w.before args s = true := C.2.2.2.2.1
theorem hr_C.r (C : hr_C l D s0 H0 A0 p s m args meth c cc nL own ret) : meth.sig.returnType = ret := C.2.2.2.2.2.1
theorem hr_C.lk (C : hr_C l D s0 H0 A0 p s m args meth c cc nL own ret) : meth.locks = false := C.2.2.2.2.2.2.1
theorem hr_C.K (C : hr_C l D s0 H0 A0 p s m args meth c cc nL own ret) : va_K D hr_cl (hr_tys D) s := C.2.2.2.2.2.2.2.1
theorem hr_C.E (C : hr_C l D s0 H0 A0 p s m args meth c cc nL own ret) : hr_E s0 s := C.2.2.2.2.2.2.2.2.1
theorem hr_C.Z (C : hr_C l D s0 H0 A0 p s m args meth c cc nL own ret) : hr_Z l D s0 := C.2.2.2.2.2.2.2.2.2.1
theorem hr_C.h0 (C : hr_C l D s0 H0 A0 p s m args meth c cc nL own ret) : s.heap = H0 := C.2.2.2.2.2.2.2.2.2.2.1
theorem hr_C.up (C : hr_C l D s0 H0 A0 p s m args meth c cc nL own ret) {H : Heap} {locs : List Loc} (hS : va_S A0 H0 H locs) : hr_X s0.heap H := by
  have h1 := C.E.2
  rw [C.h0] at h1
  exact ⟨Nat.le_trans h1.1 hS.1, fun q a b => (hS.2.1 q (Nat.lt_of_lt_of_le a h1.1) (fun z => b (C.2.2.2.2.2.2.2.2.2.2.2 q z))).trans (h1.at a)⟩
theorem hr_C.z (C : hr_C l D s0 H0 A0 p s m args meth c cc nL own ret) : hr_Zh D s0 := C.Z.2.2.2.2
theorem hr_C.fix (C : hr_C l D s0 H0 A0 p s m args meth c cc nL own ret) : CallFix p m c cc nL s args lw_all own := ⟨C.x, C.b, C.ml, C.ow, C.w⟩
theorem hr_C.nf (C : hr_C l D s0 H0 A0 p s m args meth c cc nL own ret) {a : String} {i : Nat} {b n d h : String} (hw : Cond.fieldLinkNest a i b n d h ∈ lw_tbl) : (Cond.fieldLinkNest a i b n d h).before args s = true := va_Nw.use rfl (va_Nw.warmF C.E.1 (C.Z.2.2.1 _ hw rfl))
theorem hr_C.nm (C : hr_C l D s0 H0 A0 p s m args meth c cc nL own ret) {a : String} {i : Nat} {x : MethodName} {h : String} (hw : Cond.methodLinkNest a i x h ∈ lw_tbl) : va_Nw (.methodLinkNest a i x h) s := va_Nw.warmM C.E.1 (C.Z.2.2.1 _ hw rfl)
theorem hr_C.cs (C : hr_C l D s0 H0 A0 p s m args meth c cc nL own ret) {a b : String} (hw : Cond.castable a b ∈ lw_tbl) : va_Nw (.castable a b) s := va_Nw.warmC C.E.1 (C.Z.2.2.1 _ hw rfl)
end HC
theorem hr_E.warm {s0 s : State} {U : State} (h : hr_E s0 s) (hx : hr_X s.heap U.heap) (hW : s.WarmedH U.vm) : hr_E s0 U := ⟨State.WarmedH.trans h.1 hW, h.2.tr hx⟩
/-- A CONTRACT over one heap: the method, called with As at the heap H, returns with P or throws with PX; what was there stays but for A -/
def hr_Q (H : Heap) (A : Nat → Prop) (P : Option Value → Heap → Prop) : Array Value → State → Outcome → State → Prop := fun _ _ o t => (∃ v, o = .returned v ∧ P v t.heap) ∧ hr_F A H t.heap
def hr_QX (H : Heap) (A : Nat → Prop) (PX : String → Addr → Heap → Prop) : String → Addr → State → State → Prop := fun E q _ t => PX E q t.heap ∧ hr_F A H t.heap
def hr_M (l : Launch) (s0 : State) (y : MethodName) (ws : List Cond) (rm : Room) (As : List Value) (H : Heap) (A : Nat → Prop) (P : Option Value → Heap → Prop) (PX : String → Addr → Heap → Prop) : Prop :=
  vx_Met l y ws rm (va_Pc As (fun U => hr_E s0 U ∧ U.heap = H)) (hr_Q H A P) (hr_QX H A PX) rm.cells rm.slots A
abbrev hr_no : String → Addr → Heap → Prop := fun _ _ _ => False
theorem hr_blind {s0 : State} {As : List Value} {H : Heap} : FrameBlind (va_Pc As (fun U => hr_E s0 U ∧ U.heap = H)) := fun _ _ _ _ h => h
section HOF
variable {l : Launch} {D : va_G} {s0 : State} {y : MethodName} {cc : ByteArray} {nL : Nat} {ret : Option FieldType} {rm : Room} {As : List Value} {H : Heap} {A : Nat → Prop} {P : Option Value → Heap → Prop} {PX : String → Addr → Heap → Prop}
/-- a method's body -/
theorem hr_of (Z : hr_Z l D s0) (hy : plainName y.cls = true) (hn : (lg_sl As).length ≤ nL) (hB : ∀ q, A q → s0.heap.size ≤ q ∨ H.size ≤ q)
    (body : ∀ (p : Program) (e : Env) (s : State) (m : MethodId) (args : Array Value) (below : List Frame) (meth : Method) (c : Code) (Q : State → Prop) (ls : Array Slot), hr_C l D s0 H A p s m args meth c cc nL y.cls ret → Q = vx_MQ below (hr_Q H A P) (hr_QX H A PX) args s rm.cells rm.slots A → meth.name = y.name → (∀ x ∈ c.exceptionTable.toList, False) → va_S A H H [] → lv_has ls nL (lv_args 0 As) → W p l e rm s m args below meth c H [] 0 0 Q (F0 m 0 ls [])) :
    hr_M l s0 y (ws_ y cc nL ret) rm As H A P PX := by
  refine vx_ofW (cc := cc) (maxL := nL) (ret := ret) hy rfl ?_
  intro p e s m args below meth c s₁ B hml hnx hv
  obtain ⟨rfl, hE, hH⟩ := hv
  have hts := atoms_spec (ws := ws_ y cc nL ret) B.pre
  have hl := lv_entry As (n := nL) hn
  rw [lg_entry_eq, hH]
  exact body p e s m _ below meth c _ _ ⟨B.exec, B.bytes, hml, findClass_of_methodNamed B.named, fun w h => hts w (List.mem_cons_of_mem _ h), B.returns, B.notSynchronized, va_K.moved hE.1.alike Z.2.1, hE, Z, hH, fun q hq => (hB q hq).elim id (fun h => Nat.le_trans (by have := hE.2.1; rw [hH] at this; exact this) h)⟩ rfl (name_of_methodNamed B.named B.method).1 hnx ⟨Nat.le_refl _, fun _ _ _ => rfl, fun _ h => nomatch h⟩ hl
/-- a method with handlers -/
theorem hr_ofH {hh : List (Nat × Nat × Nat × Nat)} (Z : hr_Z l D s0) (hy : plainName y.cls = true) (hn : (lg_sl As).length ≤ nL) (hB : ∀ q, A q → s0.heap.size ≤ q ∨ H.size ≤ q) 
    (body : ∀ (p : Program) (e : Env) (s : State) (m : MethodId) (args : Array Value) (below : List Frame) (meth : Method) (c : Code) (Q : State → Prop) (ls : Array Slot), hr_C l D s0 H A p s m args meth c cc nL y.cls ret → Q = vx_MQ below (hr_Q H A P) (hr_QX H A PX) args s rm.cells rm.slots A → meth.name = y.name → c.exceptionTable.toList = tableOf hh → va_S A H H [] → lv_has ls nL (lv_args 0 As) → W p l e rm s m args below meth c H [] 0 0 Q (F0 m 0 ls [])) :
    hr_M l s0 y (wsW_ y cc nL ret hh) rm As H A P PX := by
  refine vx_ofWH (cc := cc) (maxL := nL) (ret := ret) hy rfl ?_
  intro p e s m args below meth c s₁ B hml hv
  obtain ⟨rfl, hE, hH⟩ := hv
  have hts := atoms_spec (ws := wsW_ y cc nL ret hh) B.pre
  have hl := lv_entry As (n := nL) hn
  rw [lg_entry_eq, hH]
  have ht := vx_table (x := y) B (hts _ List.mem_cons_self)
  exact body p e s m _ below meth c _ _ ⟨B.exec, B.bytes, hml, findClass_of_methodNamed B.named, fun w h => hts w (List.mem_cons_of_mem _ h), B.returns, B.notSynchronized, va_K.moved hE.1.alike Z.2.1, hE, Z, hH, fun q hq => (hB q hq).elim id (fun h => Nat.le_trans (by have := hE.2.1; rw [hH] at this; exact this) h)⟩ rfl (name_of_methodNamed B.named B.method).1 ht ⟨Nat.le_refl _, fun _ _ _ => rfl, fun _ h => nomatch h⟩ hl
end HOF
section HROW
variable {l : Launch} {D : va_G} {s0 : State} {own : String} {ret : Option FieldType} {nL : Nat}
variable {p : Program} {e : Env} {R : Room} {s : State} {m : MethodId} {args : Array Value} {below : List Frame} {meth : Method} {c : Code} {H : Heap} {locs : List Loc} {cells slots : Nat} {Q : State → Prop}
variable {cc : ByteArray} {pc : Nat} {ls : Array Slot} {rest : List Value} {A A0 : Nat → Prop} {a : Nat} {H0 : Heap}
/-! ends -/
theorem hr_iret {P : Option Value → Heap → Prop} {PX : String → Addr → Heap → Prop} {mc ms : Nat} {v : Int32} (C : hr_C l D s0 H0 A p s m args meth c cc nL own (some .int)) (hQ : Q = vx_MQ below (hr_Q H0 A P) (hr_QX H0 A PX) args s mc ms A) (hp : P (some (.int v)) H) (hS : va_S A H0 H locs) (h1 : cells ≤ mc) (h2 : slots ≤ ms) (d : decode cc pc = .ok (.ireturn, 1)) : W p l e R s m args below meth c H locs cells slots Q (F0 m pc ls [.int v]) := by
  subst hQ
  refine vx_ret (W.widen h1 h2 ?_)
  exact W.iret C.x C.b C.r (fun t ht hW => ⟨⟨_, rfl, by rw [ht]; exact hp⟩, by rw [ht]; exact hr_SF hS⟩) hS.2.2 d C.lk
theorem hr_zret {P : Option Value → Heap → Prop} {PX : String → Addr → Heap → Prop} {mc ms : Nat} {v : Int32} {ty : FieldType} (C : hr_C l D s0 H0 A p s m args meth c cc nL own (some ty)) (hQ : Q = vx_MQ below (hr_Q H0 A P) (hr_QX H0 A PX) args s mc ms A) (hn : narrow ty (.int v) = .int v) (hp : P (some (.int v)) H) (hS : va_S A H0 H locs) (h1 : cells ≤ mc) (h2 : slots ≤ ms) (d : decode cc pc = .ok (.ireturn, 1)) : W p l e R s m args below meth c H locs cells slots Q (F0 m pc ls [.int v]) := by
  subst hQ
  refine vx_ret (W.widen h1 h2 ?_)
  exact W.zret C.x C.b C.r hn (fun t ht hW => ⟨⟨_, rfl, by rw [ht]; exact hp⟩, by rw [ht]; exact hr_SF hS⟩) hS.2.2 d C.lk
theorem hr_vret {P : Option Value → Heap → Prop} {PX : String → Addr → Heap → Prop} {mc ms : Nat} (C : hr_C l D s0 H0 A p s m args meth c cc nL own none) (hQ : Q = vx_MQ below (hr_Q H0 A P) (hr_QX H0 A PX) args s mc ms A) (hp : P none H) (hS : va_S A H0 H locs) (h1 : cells ≤ mc) (h2 : slots ≤ ms) (d : decode cc pc = .ok (.return_, 1)) : W p l e R s m args below meth c H locs cells slots Q (F0 m pc ls []) := by
  subst hQ
  refine vx_ret (W.widen h1 h2 ?_)
  exact W.vret C.x C.b C.r (fun t ht hW => ⟨⟨_, rfl, by rw [ht]; exact hp⟩, by rw [ht]; exact hr_SF hS⟩) hS.2.2 d C.lk
theorem hr_aret {P : Option Value → Heap → Prop} {PX : String → Addr → Heap → Prop} {mc ms : Nat} {v : Value} {rt : FieldType} (hrt : (∃ n, rt = .object n) ∨ ∃ t, rt = .array t) (hv : v = .null ∨ ∃ a, v = .ref a) (C : hr_C l D s0 H0 A p s m args meth c cc nL own (some rt)) (hQ : Q = vx_MQ below (hr_Q H0 A P) (hr_QX H0 A PX) args s mc ms A) (hp : P (some v) H) (hS : va_S A H0 H locs) (h1 : cells ≤ mc) (h2 : slots ≤ ms) (d : decode cc pc = .ok (.areturn, 1)) : W p l e R s m args below meth c H locs cells slots Q (F0 m pc ls [v]) := by
  subst hQ
  refine vx_ret (W.widen h1 h2 ?_)
  exact W.aret C.x C.b C.r hrt hv (fun t ht hW => ⟨⟨_, rfl, by rw [ht]; exact hp⟩, by rw [ht]; exact hr_SF hS⟩) hS.2.2 d C.lk
theorem hr_rv (r : Option Nat) : va_rf r = .null ∨ ∃ a, va_rf r = .ref a := by cases r with
  | none => exact Or.inl rfl
  | some a => exact Or.inr ⟨a, rfl⟩
theorem hr_fret {P : Option Value → Heap → Prop} {PX : String → Addr → Heap → Prop} {mc ms : Nat} {v : UInt32} (C : hr_C l D s0 H0 A p s m args meth c cc nL own (some .float)) (hQ : Q = vx_MQ below (hr_Q H0 A P) (hr_QX H0 A PX) args s mc ms A) (hp : P (some (.float v)) H) (hS : va_S A H0 H locs) (h1 : cells ≤ mc) (h2 : slots ≤ ms) (d : decode cc pc = .ok (.freturn, 1)) : W p l e R s m args below meth c H locs cells slots Q (F0 m pc ls [.float v]) := by
  subst hQ
  refine vx_ret (W.widen h1 h2 ?_)
  exact W.fret C.x C.b C.r (fun t ht hW => ⟨⟨_, rfl, by rw [ht]; exact hp⟩, by rw [ht]; exact hr_SF hS⟩) hS.2.2 d C.lk
theorem hr_dret {P : Option Value → Heap → Prop} {PX : String → Addr → Heap → Prop} {mc ms : Nat} {v : UInt64} (C : hr_C l D s0 H0 A p s m args meth c cc nL own (some .double)) (hQ : Q = vx_MQ below (hr_Q H0 A P) (hr_QX H0 A PX) args s mc ms A) (hp : P (some (.double v)) H) (hS : va_S A H0 H locs) (h1 : cells ≤ mc) (h2 : slots ≤ ms) (d : decode cc pc = .ok (.dreturn, 1)) : W p l e R s m args below meth c H locs cells slots Q (F0 m pc ls [.double v]) := by
  subst hQ
  refine vx_ret (W.widen h1 h2 ?_)
  exact W.dret C.x C.b C.r (fun t ht hW => ⟨⟨_, rfl, by rw [ht]; exact hp⟩, by rw [ht]; exact hr_SF hS⟩) hS.2.2 d C.lk
/-- a throw that leaves: no handler here -/
theorem hr_out {P : Option Value → Heap → Prop} {PX : String → Addr → Heap → Prop} {mc ms : Nat} {E : String} {ce : Cell} {q : Addr} (C : hr_C l D s0 H0 A p s m args meth c cc nL own ret) (hQ : Q = vx_MQ below (hr_Q H0 A P) (hr_QX H0 A PX) args s mc ms A) (hnx : ∀ x ∈ c.exceptionTable.toList, False) (hp : PX E q H) (hS : va_S A H0 H locs) (hcell : H[q]? = some ce) (hv : ce.vm = .none) (hcl : s.vm.findClass E = some ce.cls) (h1 : cells ≤ mc) (h2 : slots ≤ ms) : vx_W p l e R s m args below meth c H locs cells slots Q (F0 m pc ls rest) q := by
  subst hQ
  exact vx_out (fun x hx => (hnx x hx).elim) C.lk hcell hv hcl (fun t ht _ => ⟨by rw [ht]; exact hp, by rw [ht]; exact hr_SF hS⟩) hS.2.2 h1 h2
/-! a call, behind its run -/
theorem hr_go {P : Option Value → Heap → Prop} {PX : String → Addr → Heap → Prop} {A1 : Nat → Prop} {mc ms : Nat} {st0 : List Value} {aa : Array Value} (hr : vx_Run p l e R s m args below meth c H locs cells slots mc ms (F0 m pc ls st0) rest (hr_Q H A1 P aa) (hr_QX H A1 PX) A1) (hS : va_S A0 H0 H locs) (hA : ∀ q, A1 q → A0 q)
    (kx : ∀ (E : String) (q : Addr) (ce : Cell) (H1 : Heap) (locs1 : List Loc), PX E q H1 → hr_F A1 H H1 → va_S A0 H0 H1 locs1 → H1[q]? = some ce → ce.vm = .none → s.vm.findClass E = some ce.cls → vx_W p l e R s m args below meth c H1 locs1 (cells + mc) (slots + ms) Q (F0 m pc ls rest) q)
    (kk : ∀ (v : Option Value) (H1 : Heap) (locs1 : List Loc), P v H1 → hr_F A1 H H1 → va_S A0 H0 H1 locs1 → W p l e R s m args below meth c H1 locs1 (cells + mc) (slots + ms) Q (F0 m (pc + 3) ls (v.toList ++ rest))) : W p l e R s m args below meth c H locs cells slots Q (F0 m pc ls st0) := by
  intro T hT X
  rcases hr T hT X with ⟨v, st₀, t, T', L, h0, X', hL, e1, e2, ⟨⟨v', hv, hp⟩, hF⟩, st⟩ | ⟨q, st₀, t, T', L, E, ce, h0, X', hL, e1, e2, ⟨hp, hF⟩, hce, hv, hcl, st⟩
  · cases hv
    have hS1 : va_S A0 H0 T'.heap (locs ++ L) := by
      rw [e1]
      refine ⟨Nat.le_trans hS.1 hF.1, fun q h1 h2 => (hF.2 q (Nat.lt_of_lt_of_le h1 hS.1) (fun z => h2 (hA q z))).trans (hS.2.1 q h1 h2), fun q hq => ?_⟩
      rcases List.mem_append.mp hq with h | h
      · exact hS.2.2 q h
      · exact hA _ (hL q h)
    obtain ⟨t2, a1, b1⟩ := kk v T'.heap (locs ++ L) (by rw [e1]; exact hp) (by rw [e1]; exact hF) hS1 T' rfl X'
    exact ⟨t2, st t2 a1, b1⟩
  · have hS1 : va_S A0 H0 T'.heap (locs ++ L) := by
      rw [e1]
      refine ⟨Nat.le_trans hS.1 hF.1, fun q h1 h2 => (hF.2 q (Nat.lt_of_lt_of_le h1 hS.1) (fun z => h2 (hA q z))).trans (hS.2.1 q h1 h2), fun q hq => ?_⟩
      rcases List.mem_append.mp hq with h | h
      · exact hS.2.2 q h
      · exact hA _ (hL q h)
    obtain ⟨t2, a1, b1⟩ := kx E q ce T'.heap (locs ++ L) (by rw [e1]; exact hp) (by rw [e1]; exact hF) hS1 (by rw [e1]; exact hce) hv hcl T' rfl X'
    exact ⟨t2, st.trans a1, b1⟩
end HROW
