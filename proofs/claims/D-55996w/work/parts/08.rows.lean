/-! ROWS of the layer: fields, new objects, arrays, calls -/
section HRB
variable {l : Launch} {D : va_G} {s0 : State} {own : String} {ret : Option FieldType} {nL : Nat}
variable {p : Program} {e : Env} {R : Room} {s : State} {m : MethodId} {args : Array Value} {below : List Frame} {meth : Method} {c : Code} {H : Heap} {locs : List Loc} {cells slots : Nat} {Q : State → Prop}
variable {cc : ByteArray} {pc : Nat} {ls : Array Slot} {rest : List Value} {A : Nat → Prop} {a : Nat} {H0 : Heap}
theorem hr_P1 {q : Nat × va_E} (h : va_at D hr_cl q H) : va_P D hr_cl [q] H := by
  intro k x hk
  match k, hk with
  | 0, hk => cases hk; exact h
  | k + 1, hk => simp at hk
theorem hr_get {ref C' : String} {T : u_T} {N ci index : Nat} (hin : ∀ w ∈ u_ws C' T N, w ∈ lw_all) (k : Nat) (hlink : Cond.fieldLink own index ref (T k).2.1 (T k).2.2.1 ∈ lw_all) (hsame : ref = (T k).1) (hc : hr_cl[ci]? = some (C', T, N)) (hk : k < N) (C : hr_C l D s0 H0 A p s m args meth c cc nL own ret) {fs : List Value} {v : Value} (hO : hr_O D H a ci fs) (hv : fs[k]? = some v) (d : decode cc pc = .ok (.getfield index, 3)) (kk : W p l e R s m args below meth c H locs cells slots Q (F0 m (pc + 3) ls (v :: rest))) : W p l e R s m args below meth c H locs cells slots Q (F0 m pc ls (.ref a :: rest)) :=
  va_get (Ts := lw_all) C.x C.b C.w hin C.ow C.K (hr_P1 hO) 0 rfl hc k hk (C.w _ hlink) (fun x h => by rw [hsame]; exact h) hv d kk
theorem hr_getI {ref C' : String} {T : u_T} {N ci index : Nat} (hin : ∀ w ∈ u_ws C' T N, w ∈ lw_all) (k : Nat) (hlink : Cond.fieldLink own index ref (T k).2.1 (T k).2.2.1 ∈ lw_all) (hsame : Cond.sameField ref (T k).1 (T k).2.1 (T k).2.2.1 ∈ lw_all) (hc : hr_cl[ci]? = some (C', T, N)) (hk : k < N) (C : hr_C l D s0 H0 A p s m args meth c cc nL own ret) {fs : List Value} {v : Value} (hO : hr_O D H a ci fs) (hv : fs[k]? = some v) (d : decode cc pc = .ok (.getfield index, 3)) (kk : W p l e R s m args below meth c H locs cells slots Q (F0 m (pc + 3) ls (v :: rest))) : W p l e R s m args below meth c H locs cells slots Q (F0 m pc ls (.ref a :: rest)) :=
  va_get (Ts := lw_all) C.x C.b C.w hin C.ow C.K (hr_P1 hO) 0 rfl hc k hk (C.w _ hlink) (fun x h => u_same (C.w _ hsame) x h) hv d kk
theorem hr_getN {ref C' host : String} {T : u_T} {N ci index : Nat} (hin : ∀ w ∈ u_ws C' T N, w ∈ lw_all) (k : Nat) (hlink : Cond.fieldLinkNest own index ref (T k).2.1 (T k).2.2.1 host ∈ lw_tbl) (hsame : ref = (T k).1) (hc : hr_cl[ci]? = some (C', T, N)) (hk : k < N) (C : hr_C l D s0 H0 A p s m args meth c cc nL own ret) {fs : List Value} {v : Value} (hO : hr_O D H a ci fs) (hv : fs[k]? = some v) (d : decode cc pc = .ok (.getfield index, 3)) (kk : W p l e R s m args below meth c H locs cells slots Q (F0 m (pc + 3) ls (v :: rest))) : W p l e R s m args below meth c H locs cells slots Q (F0 m pc ls (.ref a :: rest)) :=
  va_getN (Ts := lw_all) C.x C.b C.w hin C.ow C.K (hr_P1 hO) 0 rfl hc k hk (C.nf hlink) (fun x h => by rw [hsame]; exact h) hv d kk
theorem hr_put0 {own' C' : String} {T : u_T} {N ci : Nat} (hin : ∀ w ∈ u_ws C' T N, w ∈ lw_all) (ty0 : Nat → FieldType) (hty : ∀ k, k < N → parseFieldDescriptor (T k).2.2.1 = some (ty0 k)) (hnm : ∀ a, a < N → ∀ b, b < N → a ≠ b → (T a).2.1 ≠ (T b).2.1) (k : Nat) (hfin : (T k).2.2.2 = false) (hc : hr_cl[ci]? = some (C', T, N)) (hk : k < N) (C : hr_C l D s0 H0 A p s m args meth c cc nL own ret) {fs : List Value} {v : Value} (hO : hr_O D H a ci fs) (hl : k < fs.length) (hn : narrow (ty0 k) v = v) (hfit : fits (ty0 k) v = true)
    : ∃ (cf fi : Nat) (kf : Class) (f : Field) (cell : Cell), s.fieldFound? (T k).1 (T k).2.1 (T k).2.2.1 = some (cf, kf, fi, f) ∧ f.isStatic = false ∧ k2_Sd s f cell.cls v ∧ H[a]? = some cell ∧ cell.vm = .none ∧ f.slot < cell.slots.size ∧ ∀ H1 : Heap, H1[a]? = some (cell.setSlot f.slot v) → hr_O D H1 a ci (fs.set k v) := by
  have hap := va_apart (own := own') (args := args) C.w hin ty0 hty hnm C.K hc
  obtain ⟨r, h1, cell, q1, q2, q3, q4⟩ := hO
  have hr : r = (C', T, N) := Option.some.inj (h1.symm.trans hc)
  subst hr
  obtain ⟨hS, hfc, kC, hkC, hkind⟩ := C.K.1 ci _ hc
  obtain ⟨cf, kf, fi, f, hi, hsl⟩ := hS k hk
  have hlay := C.w _ (hin _ (u_in_lay hk))
  unfold u_lay at hlay
  rw [if_neg (by rw [hfin]; decide)] at hlay
  have hst := (u_facts hfc hkC (u_lays C.w hin hk) hi).1
  have h6 := u_store hfc hkC hkind hlay hi (hty k hk) hn hfit
  refine ⟨cf, fi, kf, f, cell, hi, hst, by rw [q2]; exact h6, q1, q3, by rw [hsl]; exact k2_hasslot (q4 k hk), fun H1 e1 => ?_⟩
  rw [hsl] at e1
  exact ⟨_, hc, t_OB.to (V := updV (vp_V fs) k v) ⟨_, e1, q2, q3, t_set q4 hap hk v⟩ (fun j _ => vp_updV_set hl v j)⟩
theorem hr_put {ref C' : String} {T : u_T} {N ci index : Nat} (hin : ∀ w ∈ u_ws C' T N, w ∈ lw_all) (ty0 : Nat → FieldType) (hty : ∀ k, k < N → parseFieldDescriptor (T k).2.2.1 = some (ty0 k)) (hnm : ∀ a, a < N → ∀ b, b < N → a ≠ b → (T a).2.1 ≠ (T b).2.1) (k : Nat) (hfin : (T k).2.2.2 = false) (hlink : Cond.fieldLink own index ref (T k).2.1 (T k).2.2.1 ∈ lw_all) (hsame : ref = (T k).1 ∨ Cond.sameField ref (T k).1 (T k).2.1 (T k).2.2.1 ∈ lw_all) (hc : hr_cl[ci]? = some (C', T, N)) (hk : k < N) (C : hr_C l D s0 H0 A p s m args meth c cc nL own ret) {fs : List Value} {v : Value} (hO : hr_O D H a ci fs) (hl : k < fs.length) (hn : narrow (ty0 k) v = v) (hfit : fits (ty0 k) v = true) (hS : va_S A H0 H locs) (hA : A a) (d : decode cc pc = .ok (.putfield index, 3))
    (kk : ∀ (H1 : Heap) (locs1 : List Loc), hr_O D H1 a ci (fs.set k v) → H1.size = H.size → (∀ q : Nat, q ≠ a → H1[q]? = H[q]?) → va_S A H0 H1 locs1 → W p l e R s m args below meth c H1 locs1 cells slots Q (F0 m (pc + 3) ls rest)) : W p l e R s m args below meth c H locs cells slots Q (F0 m pc ls (v :: .ref a :: rest)) := by
  obtain ⟨cf, fi, kf, f, cell, hi, hst, h6, q1, q3, q5, hw⟩ := hr_put0 (own' := own) hin ty0 hty hnm k hfin hc hk C hO hl hn hfit
  have hi' : s.fieldFound? ref (T k).2.1 (T k).2.2.1 = some (cf, kf, fi, f) := by
    rcases hsame with h | h
    · rw [h]; exact hi
    · exact u_same (C.w _ h) _ hi
  exact W.putK C.x C.b (f := f) ⟨C.ow, C.w _ hlink, ⟨_, _, _, hi'⟩, hst⟩ h6 q1 q3 q5 rfl rfl d fun H1 e1 e2 e3 => kk H1 _ (hw H1 e1) e2 e3 (hS.put e2 e3 hA)
theorem hr_putN {ref C' host : String} {T : u_T} {N ci index : Nat} (hin : ∀ w ∈ u_ws C' T N, w ∈ lw_all) (ty0 : Nat → FieldType) (hty : ∀ k, k < N → parseFieldDescriptor (T k).2.2.1 = some (ty0 k)) (hnm : ∀ a, a < N → ∀ b, b < N → a ≠ b → (T a).2.1 ≠ (T b).2.1) (k : Nat) (hfin : (T k).2.2.2 = false) (hlink : Cond.fieldLinkNest own index ref (T k).2.1 (T k).2.2.1 host ∈ lw_tbl) (hsame : ref = (T k).1) (hc : hr_cl[ci]? = some (C', T, N)) (hk : k < N) (C : hr_C l D s0 H0 A p s m args meth c cc nL own ret) {fs : List Value} {v : Value} (hO : hr_O D H a ci fs) (hl : k < fs.length) (hn : narrow (ty0 k) v = v) (hfit : fits (ty0 k) v = true) (hS : va_S A H0 H locs) (hA : A a) (d : decode cc pc = .ok (.putfield index, 3))
    (kk : ∀ (H1 : Heap) (locs1 : List Loc), hr_O D H1 a ci (fs.set k v) → H1.size = H.size → (∀ q : Nat, q ≠ a → H1[q]? = H[q]?) → va_S A H0 H1 locs1 → W p l e R s m args below meth c H1 locs1 cells slots Q (F0 m (pc + 3) ls rest)) : W p l e R s m args below meth c H locs cells slots Q (F0 m pc ls (v :: .ref a :: rest)) := by
  obtain ⟨cf, fi, kf, f, cell, hi, hst, h6, q1, q3, q5, hw⟩ := hr_put0 (own' := own) hin ty0 hty hnm k hfin hc hk C hO hl hn hfit
  have hi' : s.fieldFound? ref (T k).2.1 (T k).2.2.1 = some (cf, kf, fi, f) := by rw [hsame]; exact hi
  exact va_WputK C.x C.b (f := f) C.ow (C.nf hlink) hi' hst h6 q1 q3 q5 rfl rfl d fun H1 e1 e2 e3 => kk H1 _ (hw H1 e1) e2 e3 (hS.put e2 e3 hA)
theorem hr_putF {ref C' : String} {T : u_T} {N ci index : Nat} (hin : ∀ w ∈ u_ws C' T N, w ∈ lw_all) (ty0 : Nat → FieldType) (hty : ∀ k, k < N → parseFieldDescriptor (T k).2.2.1 = some (ty0 k)) (hnm : ∀ a, a < N → ∀ b, b < N → a ≠ b → (T a).2.1 ≠ (T b).2.1) (k : Nat) (hfin : (T k).2.2.2 = true) (hlink : Cond.fieldLink own index ref (T k).2.1 (T k).2.2.1 ∈ lw_all) (hsame : ref = (T k).1) (hdecl : (T k).1 = own) (hc : hr_cl[ci]? = some (C', T, N)) (hk : k < N) (C : hr_C l D s0 H0 A p s m args meth c cc nL own ret) (hin2 : meth.name = "<init>") {fs : List Value} {v : Value} (hO : hr_O D H a ci fs) (hl : k < fs.length) (hn : narrow (ty0 k) v = v) (hfit : fits (ty0 k) v = true) (hS : va_S A H0 H locs) (hA : A a) (d : decode cc pc = .ok (.putfield index, 3))
    (kk : ∀ (H1 : Heap) (locs1 : List Loc), hr_O D H1 a ci (fs.set k v) → H1.size = H.size → (∀ q : Nat, q ≠ a → H1[q]? = H[q]?) → va_S A H0 H1 locs1 → W p l e R s m args below meth c H1 locs1 cells slots Q (F0 m (pc + 3) ls rest)) : W p l e R s m args below meth c H locs cells slots Q (F0 m pc ls (v :: .ref a :: rest)) := by
  have hap := va_apart (own := own) (args := args) C.w hin ty0 hty hnm C.K hc
  obtain ⟨r, h1, cell, q1, q2, q3, q4⟩ := hO
  have hr : r = (C', T, N) := Option.some.inj (h1.symm.trans hc)
  subst hr
  obtain ⟨hS9, hfc, kC, hkC, hkind⟩ := C.K.1 ci _ hc
  obtain ⟨cf, kf, fi, f, hi, hsl⟩ := hS9 k hk
  have hlay := C.w _ (hin _ (u_in_lay hk))
  unfold u_lay at hlay
  rw [if_pos hfin] at hlay
  have hst := (u_facts hfc hkC (u_lays C.w hin hk) hi).1
  have hcf : m.cls = cf := by
    obtain ⟨_, _, c', _, _, _, -, -, hf', -, -, -, hown2, -⟩ := Cond.laysFinal_spec hlay
    have e1 : c' = cf := by have := hi.symm.trans hf'; simp at this; exact this.1.symm
    rw [hdecl] at hown2
    rw [← e1]; exact Option.some.inj (C.ow.symm.trans hown2)
  have h6 := u_fits hfc hkC hkind (Or.inr hlay) hi (hty k hk) hn hfit
  refine W.putFinK C.x C.b C.ow (C.w _ hlink) (by rw [hsame]; exact hi) hst hcf hin2 (by rw [q2]; exact h6) q1 q3 (by rw [hsl]; exact k2_hasslot (q4 k hk)) rfl rfl d fun H1 e1 e2 e3 => ?_
  rw [hsl] at e1 ⊢
  exact kk H1 _ ⟨_, hc, t_OB.to (V := updV (vp_V fs) k v) ⟨_, e1, q2, q3, t_set q4 hap hk v⟩ (fun j _ => vp_updV_set hl v j)⟩ e2 e3 (hS.put e2 e3 hA)
theorem hr_new {C' : String} {T : u_T} {N N' ci index : Nat} (hin : ∀ w ∈ u_ws C' T N, w ∈ lw_all) (ty : Nat → FieldType) (hty : ∀ k, k < N → parseFieldDescriptor (T k).2.2.1 = some (ty k)) (hcl : Cond.classLink own index C' ∈ lw_all) (hinst : Cond.instantiable C' N' ∈ lw_all) (hini : Cond.initialized C' ∈ lw_all) (hc : hr_cl[ci]? = some (C', T, N)) (fs : List Value) (hfs : ∀ j, j < N → defaultValue (ty j) = vp_V fs j) (C : hr_C l D s0 H0 A p s m args meth c cc nL own ret) (hcells : cells + 1 ≤ R.cells) (hslots : slots + N' ≤ R.slots) (hS : va_S A H0 H locs) (d : decode cc pc = .ok (.new index, 3))
    (kk : ∀ (q : Nat) (H1 : Heap), q = H.size → hr_O D H1 q ci fs → hr_X H H1 → H1.size = H.size + 1 → va_S A H0 H1 locs → W p l e R s m args below meth c H1 locs (cells + 1) (slots + N') Q (F0 m (pc + 3) ls (.ref q :: rest))) : W p l e R s m args below meth c H locs cells slots Q (F0 m pc ls rest) := by
  have hKc := C.K.1 ci _ hc
  have hfc : s.vm.findClass C' = some (D.1 ci) := hKc.2.1
  refine W.newcK C.x C.b C.ow (C.w _ hcl) (C.w _ hinst) (C.w _ hini) rfl d hcells hslots hfc rfl fun H1 kC hk e z o => ?_
  refine kk _ H1 rfl ⟨_, hc, ?_⟩ ⟨by omega, fun q hq _ => o q hq⟩ z (va_S.push hS z o)
  have h1 := u_born (args := args) (H := H1) (o := H.size) ty C.w hin hKc hk e hty
  exact h1.to hfs
/-! classes of different names are two -/
theorem hr_dne {s : State} {n1 n2 : String} {c1 c2 : ClassId} (h1 : s.vm.findClass n1 = some c1) (h2 : s.vm.findClass n2 = some c2) (h : n1 ≠ n2) : c1 ≠ c2 := by
  obtain ⟨k1, a1, b1⟩ := Vm.findClass_spec h1
  obtain ⟨k2, a2, b2⟩ := Vm.findClass_spec h2
  intro e
  subst e
  rw [a1] at a2
  cases a2
  exact h (b1.symm.trans b2)
theorem hr_C.fc (C : hr_C l D s0 H0 A p s m args meth c cc nL own ret) (i : Nat) {q : vw_C} (hc : hr_cl[i]? = some q) : s.vm.findClass q.1 = some (D.1 i) := (C.K.1 i q hc).2.1
theorem hr_C.fo (C : hr_C l D s0 H0 A p s m args meth c cc nL own ret) : s.vm.findClass "[Ljava/lang/Object;" = some (D.1 105) := va_nmO (C.K.2 5 _ rfl).2 rfl
theorem hr_C.fb (C : hr_C l D s0 H0 A p s m args meth c cc nL own ret) : s.vm.findClass "[B" = some (D.1 101) := (C.K.2 1 _ rfl).2
theorem hr_C.fi (C : hr_C l D s0 H0 A p s m args meth c cc nL own ret) : s.vm.findClass "[I" = some (D.1 100) := (C.K.2 0 _ rfl).2
theorem hr_C.fch (C : hr_C l D s0 H0 A p s m args meth c cc nL own ret) : s.vm.findClass "[C" = some (D.1 102) := (C.K.2 2 _ rfl).2
/-- a class of objects isn't Object[] -/
theorem hr_C.do (C : hr_C l D s0 H0 A p s m args meth c cc nL own ret) (i : Nat) {q : vw_C} (hc : hr_cl[i]? = some q) (hn : q.1 ≠ "[Ljava/lang/Object;") : D.1 i ≠ D.1 105 := hr_dne (C.fc i hc) C.fo hn
theorem hr_C.dd (C : hr_C l D s0 H0 A p s m args meth c cc nL own ret) (i j : Nat) {q r : vw_C} (hc : hr_cl[i]? = some q) (hd : hr_cl[j]? = some r) (hn : q.1 ≠ r.1) : D.1 i ≠ D.1 j := hr_dne (C.fc i hc) (C.fc j hd) hn
/-! arrays -/
theorem hr_vn {g : Nat → Int} {k : Nat} {x : Int} : updV (hr_vi g) k (.int (hr_I x)) = hr_vi (hr_u g k x) := by
  funext j
  by_cases h : j = k <;> simp [updV, hr_u, h]
theorem hr_vqn {g : Nat → Option Nat} {k x : Nat} : updV (hr_vq g) k (.ref x) = hr_vq (hr_u g k (some x)) := by
  funext j
  show (if j = k then Value.ref x else va_rf (g j)) = va_rf (if j = k then some x else g j)
  split <;> rfl
theorem hr_vqN {g : Nat → Option Nat} {k : Nat} : updV (hr_vq g) k .null = hr_vq (hr_u g k none) := by
  funext j
  show (if j = k then Value.null else va_rf (g j)) = va_rf (if j = k then none else g j)
  split <;> rfl
theorem hr_inA {z : Int} {n : Nat} {cA : ClassId} {f : Nat → Value} (h0 : 0 ≤ z) (h1 : z < n) (hn : n < 2147483648) : ¬ (hr_I z < 0 ∨ (arrV cA n f).slots.size ≤ (hr_I z).toNatClampNeg) ∧ (hr_I z).toNatClampNeg = z.toNat ∧ z.toNat < n := by
  have := hr_in h0 h1 hn
  refine ⟨by rw [arrV_size]; exact this, hr_clamp ⟨by omega, by omega⟩, by omega⟩
theorem hr_iald {n : Nat} {f : Nat → Value} {z : Int} {v : Value} (C : hr_C l D s0 H0 A p s m args meth c cc nL own ret) (hA : hr_A H a (D.1 100) n f) (h0 : 0 ≤ z) (h1 : z < n) (hn : n < 2147483648) (hv : f z.toNat = v) (d : decode cc pc = .ok (.iaload, 1)) (kk : W p l e R s m args below meth c H locs cells slots Q (F0 m (pc + 1) ls (v :: rest))) : W p l e R s m args below meth c H locs cells slots Q (F0 m pc ls (.int (hr_I z) :: .ref a :: rest)) := by
  obtain ⟨q1, q2, q3⟩ := hr_inA (cA := D.1 100) (f := f) h0 h1 hn
  exact W.iald C.x C.b hA ((C.K.2 0 _ rfl).1 n f) (fun q => by cases q) q1 (by rw [q2, arrV_read _ _ q3, hv]) rfl rfl d kk
theorem hr_bald {n : Nat} {f : Nat → Value} {z : Int} {v : Value} (C : hr_C l D s0 H0 A p s m args meth c cc nL own ret) (hA : hr_A H a (D.1 101) n f) (h0 : 0 ≤ z) (h1 : z < n) (hn : n < 2147483648) (hv : f z.toNat = v) (d : decode cc pc = .ok (.baload, 1)) (kk : W p l e R s m args below meth c H locs cells slots Q (F0 m (pc + 1) ls (v :: rest))) : W p l e R s m args below meth c H locs cells slots Q (F0 m pc ls (.int (hr_I z) :: .ref a :: rest)) := by
  obtain ⟨q1, q2, q3⟩ := hr_inA (cA := D.1 101) (f := f) h0 h1 hn
  exact W.bald C.x C.b hA ((C.K.2 1 _ rfl).1 n f) (fun q => by cases q) q1 (by rw [q2, arrV_read _ _ q3, hv]) rfl rfl d kk
theorem hr_cald {n : Nat} {f : Nat → Value} {z : Int} {v : Value} (C : hr_C l D s0 H0 A p s m args meth c cc nL own ret) (hA : hr_A H a (D.1 102) n f) (h0 : 0 ≤ z) (h1 : z < n) (hn : n < 2147483648) (hv : f z.toNat = v) (d : decode cc pc = .ok (.caload, 1)) (kk : W p l e R s m args below meth c H locs cells slots Q (F0 m (pc + 1) ls (v :: rest))) : W p l e R s m args below meth c H locs cells slots Q (F0 m pc ls (.int (hr_I z) :: .ref a :: rest)) := by
  obtain ⟨q1, q2, q3⟩ := hr_inA (cA := D.1 102) (f := f) h0 h1 hn
  exact W.cald C.x C.b hA ((C.K.2 2 _ rfl).1 n f) (fun q => by cases q) q1 (by rw [q2, arrV_read _ _ q3, hv]) rfl rfl d kk
theorem hr_lald {n : Nat} {f : Nat → Value} {z : Int} {v : Value} (C : hr_C l D s0 H0 A p s m args meth c cc nL own ret) (hA : hr_A H a (D.1 103) n f) (h0 : 0 ≤ z) (h1 : z < n) (hn : n < 2147483648) (hv : f z.toNat = v) (d : decode cc pc = .ok (.laload, 1)) (kk : W p l e R s m args below meth c H locs cells slots Q (F0 m (pc + 1) ls (v :: rest))) : W p l e R s m args below meth c H locs cells slots Q (F0 m pc ls (.int (hr_I z) :: .ref a :: rest)) := by
  obtain ⟨q1, q2, q3⟩ := hr_inA (cA := D.1 103) (f := f) h0 h1 hn
  exact W.lald C.x C.b hA ((C.K.2 3 _ rfl).1 n f) (fun q => by cases q) q1 (by rw [q2, arrV_read _ _ q3, hv]) rfl rfl d kk
theorem hr_dald {n : Nat} {f : Nat → Value} {z : Int} {v : Value} (C : hr_C l D s0 H0 A p s m args meth c cc nL own ret) (hA : hr_A H a (D.1 104) n f) (h0 : 0 ≤ z) (h1 : z < n) (hn : n < 2147483648) (hv : f z.toNat = v) (d : decode cc pc = .ok (.daload, 1)) (kk : W p l e R s m args below meth c H locs cells slots Q (F0 m (pc + 1) ls (v :: rest))) : W p l e R s m args below meth c H locs cells slots Q (F0 m pc ls (.int (hr_I z) :: .ref a :: rest)) := by
  obtain ⟨q1, q2, q3⟩ := hr_inA (cA := D.1 104) (f := f) h0 h1 hn
  exact W.dald C.x C.b hA ((C.K.2 4 _ rfl).1 n f) (fun q => by cases q) q1 (by rw [q2, arrV_read _ _ q3, hv]) rfl rfl d kk
theorem hr_aald {n : Nat} {f : Nat → Value} {z : Int} {v : Value} (C : hr_C l D s0 H0 A p s m args meth c cc nL own ret) (hA : hr_A H a (D.1 105) n f) (h0 : 0 ≤ z) (h1 : z < n) (hn : n < 2147483648) (hv : f z.toNat = v) (d : decode cc pc = .ok (.aaload, 1)) (kk : W p l e R s m args below meth c H locs cells slots Q (F0 m (pc + 1) ls (v :: rest))) : W p l e R s m args below meth c H locs cells slots Q (F0 m pc ls (.int (hr_I z) :: .ref a :: rest)) := by
  obtain ⟨q1, q2, q3⟩ := hr_inA (cA := D.1 105) (f := f) h0 h1 hn
  exact W.aald C.x C.b hA ((C.K.2 5 _ rfl).1 n f) rfl (fun q => by cases q) q1 (by rw [q2, arrV_read _ _ q3, hv]) rfl rfl d kk
theorem hr_alen (t : Nat) {ty : FieldType} {n : Nat} {f : Nat → Value} {cA : ClassId} (C : hr_C l D s0 H0 A p s m args meth c cc nL own ret) (ht : (hr_tys D)[t]? = some (cA, ty)) (hA : hr_A H a cA n f) (d : decode cc pc = .ok (.arraylength, 1)) (kk : W p l e R s m args below meth c H locs cells slots Q (F0 m (pc + 1) ls (.int (hr_I (n : Int)) :: rest))) : W p l e R s m args below meth c H locs cells slots Q (F0 m pc ls (.ref a :: rest)) :=
  W.alen (n := hr_I (n : Int)) C.x C.b hA ((C.K.2 t _ ht).1 n f) (by rw [arrV_size]; exact hr_n n) rfl rfl d kk
theorem hr_iast {n : Nat} {g : Nat → Int} {z x : Int} (C : hr_C l D s0 H0 A p s m args meth c cc nL own ret) (hA : hr_A H a (D.1 100) n (hr_vi g)) (h0 : 0 ≤ z) (h1 : z < n) (hn : n < 2147483648) (hS : va_S A H0 H locs) (ha : A a) (d : decode cc pc = .ok (.iastore, 1))
    (kk : ∀ (H1 : Heap) (locs1 : List Loc), hr_A H1 a (D.1 100) n (hr_vi (hr_u g z.toNat x)) → H1.size = H.size → (∀ q : Nat, q ≠ a → H1[q]? = H[q]?) → va_S A H0 H1 locs1 → W p l e R s m args below meth c H1 locs1 cells slots Q (F0 m (pc + 1) ls rest)) : W p l e R s m args below meth c H locs cells slots Q (F0 m pc ls (.int (hr_I x) :: .int (hr_I z) :: .ref a :: rest)) := by
  obtain ⟨q1, q2, q3⟩ := hr_inA (cA := D.1 100) (f := hr_vi g) h0 h1 hn
  refine W.iast C.x C.b hA ((C.K.2 0 _ rfl).1 n _) (fun q => by cases q) q1 rfl rfl d fun H1 e1 e2 e3 => kk H1 _ ?_ e2 e3 (hS.put e2 e3 ha)
  rw [q2, arrV_store, hr_vn] at e1
  exact e1
theorem hr_bast {n : Nat} {g : Nat → Int} {z x : Int} (C : hr_C l D s0 H0 A p s m args meth c cc nL own ret) (hA : hr_A H a (D.1 101) n (hr_vi g)) (hx : narrow .byte (.int (hr_I x)) = .int (hr_I x)) (h0 : 0 ≤ z) (h1 : z < n) (hn : n < 2147483648) (hS : va_S A H0 H locs) (ha : A a) (d : decode cc pc = .ok (.bastore, 1))
    (kk : ∀ (H1 : Heap) (locs1 : List Loc), hr_A H1 a (D.1 101) n (hr_vi (hr_u g z.toNat x)) → H1.size = H.size → (∀ q : Nat, q ≠ a → H1[q]? = H[q]?) → va_S A H0 H1 locs1 → W p l e R s m args below meth c H1 locs1 cells slots Q (F0 m (pc + 1) ls rest)) : W p l e R s m args below meth c H locs cells slots Q (F0 m pc ls (.int (hr_I x) :: .int (hr_I z) :: .ref a :: rest)) := by
  obtain ⟨q1, q2, q3⟩ := hr_inA (cA := D.1 101) (f := hr_vi g) h0 h1 hn
  refine W.bast C.x C.b hA ((C.K.2 1 _ rfl).1 n _) (fun q => by cases q) q1 rfl rfl d fun H1 e1 e2 e3 => kk H1 _ ?_ e2 e3 (hS.put e2 e3 ha)
  rw [q2, hx, arrV_store, hr_vn] at e1
  exact e1
theorem hr_cast {n : Nat} {g : Nat → Int} {z x : Int} (C : hr_C l D s0 H0 A p s m args meth c cc nL own ret) (hA : hr_A H a (D.1 102) n (hr_vi g)) (hx : 0 ≤ x ∧ x < 65536) (h0 : 0 ≤ z) (h1 : z < n) (hn : n < 2147483648) (hS : va_S A H0 H locs) (ha : A a) (d : decode cc pc = .ok (.castore, 1))
    (kk : ∀ (H1 : Heap) (locs1 : List Loc), hr_A H1 a (D.1 102) n (hr_vi (hr_u g z.toNat x)) → H1.size = H.size → (∀ q : Nat, q ≠ a → H1[q]? = H[q]?) → va_S A H0 H1 locs1 → W p l e R s m args below meth c H1 locs1 cells slots Q (F0 m (pc + 1) ls rest)) : W p l e R s m args below meth c H locs cells slots Q (F0 m pc ls (.int (hr_I x) :: .int (hr_I z) :: .ref a :: rest)) := by
  obtain ⟨q1, q2, q3⟩ := hr_inA (cA := D.1 102) (f := hr_vi g) h0 h1 hn
  refine W.cast C.x C.b hA ((C.K.2 2 _ rfl).1 n _) (fun q => by cases q) q1 rfl rfl d fun H1 e1 e2 e3 => kk H1 _ ?_ e2 e3 (hS.put e2 e3 ha)
  rw [q2, (hr_nc hx).1, arrV_store, hr_vn] at e1
  exact e1
theorem hr_last {n : Nat} {f : Nat → Value} {z : Int} {x : Int64} (C : hr_C l D s0 H0 A p s m args meth c cc nL own ret) (hA : hr_A H a (D.1 103) n f) (h0 : 0 ≤ z) (h1 : z < n) (hn : n < 2147483648) (hS : va_S A H0 H locs) (ha : A a) (d : decode cc pc = .ok (.lastore, 1))
    (kk : ∀ (H1 : Heap) (locs1 : List Loc), hr_A H1 a (D.1 103) n (updV f z.toNat (.long x)) → H1.size = H.size → (∀ q : Nat, q ≠ a → H1[q]? = H[q]?) → va_S A H0 H1 locs1 → W p l e R s m args below meth c H1 locs1 cells slots Q (F0 m (pc + 1) ls rest)) : W p l e R s m args below meth c H locs cells slots Q (F0 m pc ls (.long x :: .int (hr_I z) :: .ref a :: rest)) := by
  obtain ⟨q1, q2, q3⟩ := hr_inA (cA := D.1 103) (f := f) h0 h1 hn
  refine W.last C.x C.b hA ((C.K.2 3 _ rfl).1 n _) (fun q => by cases q) q1 rfl rfl d fun H1 e1 e2 e3 => kk H1 _ ?_ e2 e3 (hS.put e2 e3 ha)
  rw [q2, arrV_store] at e1
  exact e1
theorem hr_dast {n : Nat} {f : Nat → Value} {z : Int} {x : UInt64} (C : hr_C l D s0 H0 A p s m args meth c cc nL own ret) (hA : hr_A H a (D.1 104) n f) (h0 : 0 ≤ z) (h1 : z < n) (hn : n < 2147483648) (hS : va_S A H0 H locs) (ha : A a) (d : decode cc pc = .ok (.dastore, 1))
    (kk : ∀ (H1 : Heap) (locs1 : List Loc), hr_A H1 a (D.1 104) n (updV f z.toNat (.double x)) → H1.size = H.size → (∀ q : Nat, q ≠ a → H1[q]? = H[q]?) → va_S A H0 H1 locs1 → W p l e R s m args below meth c H1 locs1 cells slots Q (F0 m (pc + 1) ls rest)) : W p l e R s m args below meth c H locs cells slots Q (F0 m pc ls (.double x :: .int (hr_I z) :: .ref a :: rest)) := by
  obtain ⟨q1, q2, q3⟩ := hr_inA (cA := D.1 104) (f := f) h0 h1 hn
  refine W.dast C.x C.b hA ((C.K.2 4 _ rfl).1 n _) (fun q => by cases q) q1 rfl rfl d fun H1 e1 e2 e3 => kk H1 _ ?_ e2 e3 (hS.put e2 e3 ha)
  rw [q2, arrV_store] at e1
  exact e1
/-- what may be kept in an Object[] -/
def hr_Any (s : State) (H : Heap) (v : Nat) : Prop := va_Any "java/lang/Object" s H v
theorem hr_O.recv {ci : Nat} {fs : List Value} (C : hr_C l D s0 H0 A p s m args meth c cc nL own ret) (hO : hr_O D H a ci fs) {q : vw_C} (hc : hr_cl[ci]? = some q) : ∃ cell : Cell, H[a]? = some cell ∧ cell.vm.isStatics = false ∧ s.vm.findClass q.1 = some cell.cls := va_recv C.K (hr_P1 hO) hc (q0 := 0) rfl
theorem hr_O.any {ci : Nat} {fs : List Value} (C : hr_C l D s0 H0 A p s m args meth c cc nL own ret) (hO : hr_O D H a ci fs) {q : vw_C} (hc : hr_cl[ci]? = some q) (hca : Cond.castable q.1 "java/lang/Object" ∈ lw_tbl) : hr_Any s H a := va_rAny C.K (hr_P1 hO) (q0 := 0) rfl hc (vb_asgC (C.cs hca))
theorem hr_aast {n v : Nat} {g : Nat → Option Nat} {z : Int} (C : hr_C l D s0 H0 A p s m args meth c cc nL own ret) (hA : hr_A H a (D.1 105) n (hr_vq g)) (hv : hr_Any s H v) (h0 : 0 ≤ z) (h1 : z < n) (hn : n < 2147483648) (hS : va_S A H0 H locs) (ha : A a) (d : decode cc pc = .ok (.aastore, 1))
    (kk : ∀ (H1 : Heap) (locs1 : List Loc), hr_A H1 a (D.1 105) n (hr_vq (hr_u g z.toNat (some v))) → H1.size = H.size → (∀ q : Nat, q ≠ a → H1[q]? = H[q]?) → va_S A H0 H1 locs1 → W p l e R s m args below meth c H1 locs1 cells slots Q (F0 m (pc + 1) ls rest)) : W p l e R s m args below meth c H locs cells slots Q (F0 m pc ls (.ref v :: .int (hr_I z) :: .ref a :: rest)) := by
  obtain ⟨q1, q2, q3⟩ := hr_inA (cA := D.1 105) (f := hr_vq g) h0 h1 hn
  obtain ⟨cellV, g1, g3, ⟨kC, hkC⟩, hasg⟩ := hv
  obtain ⟨kA, comp, k1, k2, k3, -⟩ := (C.K.2 5 _ rfl).2
  obtain ⟨kE, hkE, -⟩ := Vm.findClass_spec k3
  refine W.aast C.x C.b hA (fun q h => by cases h) (fun h => by cases h) k1 k2 rfl hkE ⟨fun q => q1 (Or.inl q), by rw [arrV_size, q2]; exact q3⟩ g1 (fun q h => by rw [h] at g3; cases g3) hkC (hasg _ k3) rfl rfl d fun H1 e1 e2 e3 => kk H1 _ ?_ e2 e3 (hS.put e2 e3 ha)
  rw [q2, arrV_store, hr_vqn] at e1
  exact e1
theorem hr_aastN {n : Nat} {g : Nat → Option Nat} {z : Int} (C : hr_C l D s0 H0 A p s m args meth c cc nL own ret) (hA : hr_A H a (D.1 105) n (hr_vq g)) (h0 : 0 ≤ z) (h1 : z < n) (hn : n < 2147483648) (hS : va_S A H0 H locs) (ha : A a) (d : decode cc pc = .ok (.aastore, 1))
    (kk : ∀ (H1 : Heap) (locs1 : List Loc), hr_A H1 a (D.1 105) n (hr_vq (hr_u g z.toNat none)) → H1.size = H.size → (∀ q : Nat, q ≠ a → H1[q]? = H[q]?) → va_S A H0 H1 locs1 → W p l e R s m args below meth c H1 locs1 cells slots Q (F0 m (pc + 1) ls rest)) : W p l e R s m args below meth c H locs cells slots Q (F0 m pc ls (.null :: .int (hr_I z) :: .ref a :: rest)) := by
  obtain ⟨q1, q2, q3⟩ := hr_inA (cA := D.1 105) (f := hr_vq g) h0 h1 hn
  refine va_WaastN (C := "java/lang/Object") C.x C.b hA ((C.K.2 5 _ rfl).1 n (hr_vq g)) (fun h => by cases h) q1 rfl rfl d fun H1 e1 e2 e3 => kk H1 _ ?_ e2 e3 (hS.put e2 e3 ha)
  rw [q2, arrV_store, hr_vqN] at e1
  exact e1
/-- a new array of numbers -/
theorem hr_newa {atype : ArrayType} (t : Nat) {ty : FieldType} {cA : ClassId} (hty : newarray.typeOf atype = ty) (ht : (hr_tys D)[t]? = some (cA, ty)) (hno : ∀ U c, va_RA U c ty → U.vm.findClass ("[" ++ ty.toString) = some c) {z : Int} (C : hr_C l D s0 H0 A p s m args meth c cc nL own ret) (harr : Cond.arrayClass (newarray.typeOf atype) ∈ lw_all) (h0 : 0 ≤ z) (h1 : z < 65536) (hcells : cells + 1 ≤ R.cells) (hslots : slots + z.toNat ≤ R.slots) (hS : va_S A H0 H locs) (d : decode cc pc = .ok (.newarray atype, 2))
    (kk : ∀ (q : Nat) (H1 : Heap), q = H.size → hr_A H1 q cA z.toNat (fun _ => defaultValue ty) → hr_X H H1 → H1.size = H.size + 1 → va_S A H0 H1 locs → W p l e R s m args below meth c H1 locs (cells + 1) (slots + z.toNat) Q (F0 m (pc + 2) ls (.ref q :: rest))) : W p l e R s m args below meth c H locs cells slots Q (F0 m pc ls (.int (hr_I z) :: rest)) := by
  subst hty
  have hz : hr_R z := ⟨by omega, by omega⟩
  refine va_newaK C.x C.b (C.w _ harr) rfl d rfl (N := z.toNat) (by rw [← hr_0, hr_lt hz ⟨by omega, by omega⟩]; omega) (hr_clamp hz) (by
    have : z.toNat * componentBytes (newarray.typeOf atype) ≤ 65536 * 8 := Nat.mul_le_mul (by omega) (by cases atype <;> decide)
    omega) hcells hslots rfl fun H1 cA' e1 z1 o1 hAr hNm => ?_
  have hcA : cA' = cA := Option.some.inj (hNm.symm.trans (hno _ _ (C.K.2 t _ ht).2))
  subst hcA
  exact kk _ H1 rfl e1 ⟨by omega, fun q hq _ => o1 q hq⟩ z1 (va_S.push hS z1 o1)
theorem hr_C.ao (C : hr_C l D s0 H0 A p s m args meth c cc nL own ret) : va_AO "java/lang/Object" s := va_AO.moved C.E.1.alike C.Z.2.2.2.1
/-- a new Object[] -/
theorem hr_newo {index : Nat} {z : Int} (C : hr_C l D s0 H0 A p s m args meth c cc nL own ret) (hcl : Cond.classLink own index "java/lang/Object" ∈ lw_all) (h0 : 0 ≤ z) (h1 : z < 65536) (hcells : cells + 1 ≤ R.cells) (hslots : slots + z.toNat ≤ R.slots) (hS : va_S A H0 H locs) (d : decode cc pc = .ok (.anewarray index, 3))
    (kk : ∀ (q : Nat) (H1 : Heap), q = H.size → hr_A H1 q (D.1 105) z.toNat (hr_vq fun _ => none) → hr_X H H1 → H1.size = H.size + 1 → va_S A H0 H1 locs → W p l e R s m args below meth c H1 locs (cells + 1) (slots + z.toNat) Q (F0 m (pc + 3) ls (.ref q :: rest))) : W p l e R s m args below meth c H locs cells slots Q (F0 m pc ls (.int (hr_I z) :: rest)) := by
  have hz : hr_R z := ⟨by omega, by omega⟩
  have hcl9 : (hr_I z).toNatClampNeg = z.toNat := hr_clamp hz
  refine W.anew C.x C.b C.ow (C.w _ hcl) (va_AO.use C.ao) rfl d rfl (by rw [← hr_0, hr_lt hz ⟨by omega, by omega⟩]; omega) (by rw [hcl9]; omega) hcells (by rw [hcl9]; exact hslots) fun cA kA comp f1 f2 f3 f4 => ?_
  obtain ⟨kA', comp', k1, k2, k3, k4⟩ := (C.K.2 5 _ rfl).2
  have hcA : cA = D.1 105 := Option.some.inj (f1.symm.trans k4)
  subst hcA
  generalize hH1 : H.push ({ cls := D.1 105, slots := Array.replicate (hr_I z).toNatClampNeg .null, vm := .none } : Cell) = H1
  have z1 : H1.size = H.size + 1 := by rw [← hH1, Array.size_push]
  have e1 : H1[H.size]? = some (arrV (D.1 105) z.toNat (fun _ => .null)) := by rw [← hH1, Array.getElem?_push_size, ← arrV_new, hcl9]
  have o1 : ∀ q : Nat, q < H.size → H1[q]? = H[q]? := fun q hq => by rw [← hH1, Array.getElem?_push, if_neg (Nat.ne_of_lt hq)]
  rw [hcl9]
  exact kk _ H1 rfl e1 ⟨by omega, fun q hq _ => o1 q hq⟩ z1 (va_S.push hS z1 o1)
/-- a static of the start, at any heap of the method -/
theorem hr_Zup {C' n d : String} {v : Value} (hZ : va_Z C' n d v (hr_N s0.heap) s0 s0.heap) (C : hr_C l D s0 H0 A p s m args meth c cc nL own ret) : va_Z C' n d v A s s.heap := by
  refine va_Z.narrow (va_Z.kept (va_Z.moved C.E.1.alike hZ) ?_) (fun q hq => C.2.2.2.2.2.2.2.2.2.2.2 q hq)
  intro q h1 h2
  exact C.E.2.at h1
theorem hr_Zqup {C' n d : String} (hZ : vx_Zq C' n d (hr_N s0.heap) s0 s0.heap) (C : hr_C l D s0 H0 A p s m args meth c cc nL own ret) : vx_Zq C' n d A s s.heap := by
  refine vx_Zq.narrow (vx_Zq.kept (vx_Zq.moved C.E.1.alike hZ) ?_) (fun q hq => C.2.2.2.2.2.2.2.2.2.2.2 q hq)
  intro q h1 h2
  exact C.E.2.at h1
theorem hr_gets {C' n d ref : String} {v : Value} {index : Nat} (hZ : va_Z C' n d v (hr_N s0.heap) s0 s0.heap) (hlink : Cond.fieldLink own index ref n d ∈ lw_all) (hsame : ref = C') (C : hr_C l D s0 H0 A p s m args meth c cc nL own ret) (hS : va_S A H0 H locs) (dg : decode cc pc = .ok (.getstatic index, 3)) (kk : W p l e R s m args below meth c H locs cells slots Q (F0 m (pc + 3) ls (v :: rest))) : W p l e R s m args below meth c H locs cells slots Q (F0 m pc ls rest) :=
  va_gets C.x C.b (hr_Zup hZ C) (by rw [C.h0]; exact hS) C.ow (C.w _ hlink) (fun x h => by rw [hsame]; exact h) dg kk
/-- the call of Object's constructor -/
theorem hr_obj {idx : Nat} (hl : Cond.methodLink own idx objectInit ∈ lw_all) (C : hr_C l D s0 H0 A p s m args meth c cc nL own ret) (hls : ls.size = nL) (hf : 1 ≤ R.frames) (hr : (rest.map fun v => v.category).sum + 12 ≤ R.locals) (d : decode cc pc = .ok (.invokespecial idx, 3)) (kk : W p l e R s m args below meth c H locs cells slots Q (F0 m (pc + 3) ls rest)) : W p l e R s m args below meth c H locs cells slots Q (F0 m pc ls (.ref a :: rest)) :=
  W.objInit C.x C.b C.ow (C.w _ hl) (C.w _ q122) (C.w _ q123) rfl (by rw [C.ml]; exact hls) rfl d hf (by show 2 * 0 + _ + 12 ≤ _; omega) kk
/-- System.arraycopy, references -/
theorem hr_copyq {index : Nat} {a0 n0 n1 : Nat} {f g : Nat → Option Nat} {sp dp n : Int} (C : hr_C l D s0 H0 A p s m args meth c cc nL own ret) (hls : ls.size = nL) (hlink : Cond.methodLink own index arraycopyName ∈ lw_all) (hA0 : hr_A H a0 (D.1 105) n0 (hr_vq f)) (hA1 : hr_A H a (D.1 105) n1 (hr_vq g)) (h1 : 0 ≤ sp) (h2 : 0 ≤ dp) (h3 : 0 ≤ n) (h4 : sp + n ≤ n0) (h5 : dp + n ≤ n1) (hn0 : n0 < 65536) (hn1 : n1 < 65536) (hel : ∀ i : Nat, i < n.toNat → ∀ y : Nat, f (sp.toNat + i) = some y → hr_Any s H y) (hS : va_S A H0 H locs) (ha : A a) (hframes : 1 ≤ R.frames) (hlocals : (rest.map fun v => v.category).sum + 18 ≤ R.locals) (d : decode cc pc = .ok (.invokestatic index, 3))
    (kk : ∀ (H1 : Heap) (locs1 : List Loc), hr_A H1 a (D.1 105) n1 (hr_vq (va_cpy f g sp.toNat dp.toNat n.toNat)) → H1.size = H.size → (∀ q : Nat, q ≠ a → H1[q]? = H[q]?) → va_S A H0 H1 locs1 → W p l e R s m args below meth c H1 locs1 cells slots Q (F0 m (pc + 3) ls rest)) : W p l e R s m args below meth c H locs cells slots Q (F0 m pc ls (.int (hr_I n) :: .int (hr_I dp) :: .ref a :: .int (hr_I sp) :: .ref a0 :: rest)) := by
  have t1 := hr_toInt (z := sp) ⟨by omega, by omega⟩
  have t2 := hr_toInt (z := dp) ⟨by omega, by omega⟩
  have t3 := hr_toInt (z := n) ⟨by omega, by omega⟩
  have c1 := hr_clamp (z := sp) ⟨by omega, by omega⟩
  have c2 := hr_clamp (z := dp) ⟨by omega, by omega⟩
  have c3 := hr_clamp (z := n) ⟨by omega, by omega⟩
  have n0' : ∀ z : Int, hr_R z → 0 ≤ z → ¬ hr_I z < 0 := fun z hz h => by rw [← hr_0, hr_lt hz ⟨by omega, by omega⟩]; omega
  intro T hT X
  obtain ⟨-, k0, hk0, cm0, hkk0⟩ := (C.K.2 5 _ rfl).1 n0 (hr_vq f)
  obtain ⟨-, k1, hk1, cm1, hkk1⟩ := (C.K.2 5 _ rfl).1 n1 (hr_vq g)
  obtain ⟨vm', X', step⟩ := X.arraycopy C.x C.ow (C.w _ hlink) (C.w _ q718) (C.w _ q717) (C.w _ q97) (src := a0) (dst := a) (cs := arrV (D.1 105) n0 (hr_vq f)) (cd := arrV (D.1 105) n1 (hr_vq g)) (srcPos := hr_I sp) (destPos := hr_I dp) (n := hr_I n) (by rw [hT]; exact hA0) (by rw [hT]; exact hA1)
    (fun _ h => by cases h) (fun _ h => by cases h) (fun h => by cases h) (fun h => by cases h) hk0 hk1 hkk0 hkk1 rfl (n0' sp ⟨by omega, by omega⟩ h1) (n0' dp ⟨by omega, by omega⟩ h2) (n0' n ⟨by omega, by omega⟩ h3)
    (by rw [t1, t3, arrV_size]; omega) (by rw [t2, t3, arrV_size]; omega)
    (fun vm₁ hal i hi => by
      rw [c3] at hi
      have e : (arrV (D.1 105) n0 (hr_vq f)).slots.getD ((hr_I sp).toNatClampNeg + i) .null = va_rf (f (sp.toNat + i)) := by
        rw [c1, Array.getD_eq_getD_getElem?, arrV_read _ _ (by omega)]
        rfl
      rw [e]
      cases hy : f (sp.toNat + i) with
      | none => exact ⟨rfl, trivial⟩
      | some y =>
        obtain ⟨cellV, g1, g2, ⟨kC, hkC⟩, hasg⟩ := hel i hi y hy
        obtain ⟨kA, comp, r1, r2, r3, -⟩ := (C.K.2 5 _ rfl).2
        cases hk1.symm.trans r1
        cases hkk1.symm.trans r2
        obtain ⟨kE, hkE, -⟩ := Vm.findClass_spec r3
        obtain ⟨kC', hkC', -⟩ := hal.2.2 _ _ hkC
        obtain ⟨kE', hkE', -⟩ := hal.2.2 _ _ hkE
        refine ⟨rfl, cellV, (show T.heap[y]? = some cellV by rw [hT]; exact g1), (fun q h => by rw [h] at g2; cases g2), ⟨kC', hkC'⟩, ?_, ?_⟩
        · exact ⟨kE', hkE'⟩
        · show vm₁.assignable _ _ = true
          rw [hal.assignable]
          exact hasg _ r3)
    (g := F0 m pc ls (.int (hr_I n) :: .int (hr_I dp) :: .ref a :: .int (hr_I sp) :: .ref a0 :: rest)) rfl (by rw [C.ml]; exact hls) (rest := rest) rfl (by rw [C.b]; exact d) hframes (by show 2 * 0 + _ + (nativeFrameWords "java/lang/System" "arraycopy" 5 + 11) ≤ _; have hw : nativeFrameWords "java/lang/System" "arraycopy" 5 = 7 := (by decide); omega)
  have e1 : copied (arrV (D.1 105) n0 (hr_vq f)) (arrV (D.1 105) n1 (hr_vq g)) (hr_I sp) (hr_I dp) (hr_I n) = arrV (D.1 105) n1 (hr_vq (va_cpy f g sp.toNat dp.toNat n.toNat)) := by
    have := va_copied (fun z => va_rf z) (D.1 105) (D.1 105) (n0 := n0) (n1 := n1) (sp := sp.toNat) (dp := dp.toNat) (n := n.toNat) f g (by omega)
    rw [← this, ← c1, ← c2, ← c3]
  rw [e1] at X' step
  have hl : a < H.size := hr_lt_of hA1
  have hheap : ((T.setVm vm').setCell a (arrV (D.1 105) n1 (hr_vq (va_cpy f g sp.toNat dp.toNat n.toNat)))).heap = H.setIfInBounds a (arrV (D.1 105) n1 (hr_vq (va_cpy f g sp.toNat dp.toNat n.toNat))) := by rw [← hT]; rfl
  have oq : ∀ q : Nat, q ≠ a → (H.setIfInBounds a (arrV (D.1 105) n1 (hr_vq (va_cpy f g sp.toNat dp.toNat n.toNat))))[q]? = H[q]? := fun q hq => by simp [Array.getElem?_setIfInBounds, Ne.symm hq]
  obtain ⟨t, a1, b1⟩ := kk _ _ (show (H.setIfInBounds a _)[a]? = some _ by simp [Array.getElem?_setIfInBounds, hl]) (by simp) oq ⟨by simp; exact hS.1, fun q g1 g2 => by
      rw [oq q (fun e => g2 (by rw [e]; exact ha))]
      exact hS.2.1 q g1 g2, fun q hq => by
      rcases List.mem_append.mp hq with h | h
      · exact hS.2.2 q h
      · obtain ⟨z, -, hz⟩ := List.mem_map.mp h
        rw [← hz]
        exact ha⟩ _ hheap X'
  exact ⟨t, step t a1, b1⟩
/-- System.arraycopy, bytes -/
theorem hr_copyb {index : Nat} {a0 n0 n1 : Nat} {f g : Nat → Int} {sp dp n : Int} (C : hr_C l D s0 H0 A p s m args meth c cc nL own ret) (hls : ls.size = nL) (hlink : Cond.methodLink own index arraycopyName ∈ lw_all) (hA0 : hr_A H a0 (D.1 101) n0 (hr_vi f)) (hA1 : hr_A H a (D.1 101) n1 (hr_vi g)) (h1 : 0 ≤ sp) (h2 : 0 ≤ dp) (h3 : 0 ≤ n) (h4 : sp + n ≤ n0) (h5 : dp + n ≤ n1) (hn0 : n0 < 65536) (hn1 : n1 < 65536) (hel : ∀ i : Nat, i < n.toNat → fits .byte (.int (hr_I (f (sp.toNat + i)))) = true) (hS : va_S A H0 H locs) (ha : A a) (hframes : 1 ≤ R.frames) (hlocals : (rest.map fun v => v.category).sum + 18 ≤ R.locals) (d : decode cc pc = .ok (.invokestatic index, 3))
    (kk : ∀ (H1 : Heap) (locs1 : List Loc), hr_A H1 a (D.1 101) n1 (hr_vi (va_cpy f g sp.toNat dp.toNat n.toNat)) → H1.size = H.size → (∀ q : Nat, q ≠ a → H1[q]? = H[q]?) → va_S A H0 H1 locs1 → W p l e R s m args below meth c H1 locs1 cells slots Q (F0 m (pc + 3) ls rest)) : W p l e R s m args below meth c H locs cells slots Q (F0 m pc ls (.int (hr_I n) :: .int (hr_I dp) :: .ref a :: .int (hr_I sp) :: .ref a0 :: rest)) := by
  have t1 := hr_toInt (z := sp) ⟨by omega, by omega⟩
  have t2 := hr_toInt (z := dp) ⟨by omega, by omega⟩
  have t3 := hr_toInt (z := n) ⟨by omega, by omega⟩
  have c1 := hr_clamp (z := sp) ⟨by omega, by omega⟩
  have c2 := hr_clamp (z := dp) ⟨by omega, by omega⟩
  have c3 := hr_clamp (z := n) ⟨by omega, by omega⟩
  have n0' : ∀ z : Int, hr_R z → 0 ≤ z → ¬ hr_I z < 0 := fun z hz h => by rw [← hr_0, hr_lt hz ⟨by omega, by omega⟩]; omega
  intro T hT X
  obtain ⟨-, k0, hk0, cm0, hkk0⟩ := (C.K.2 1 _ rfl).1 n0 (hr_vi f)
  obtain ⟨-, k1, hk1, cm1, hkk1⟩ := (C.K.2 1 _ rfl).1 n1 (hr_vi g)
  obtain ⟨vm', X', step⟩ := X.arraycopy C.x C.ow (C.w _ hlink) (C.w _ q718) (C.w _ q717) (C.w _ q97) (src := a0) (dst := a) (cs := arrV (D.1 101) n0 (hr_vi f)) (cd := arrV (D.1 101) n1 (hr_vi g)) (srcPos := hr_I sp) (destPos := hr_I dp) (n := hr_I n) (by rw [hT]; exact hA0) (by rw [hT]; exact hA1)
    (fun _ h => by cases h) (fun _ h => by cases h) (fun h => by cases h) (fun h => by cases h) hk0 hk1 hkk0 hkk1 (by rfl) (n0' sp ⟨by omega, by omega⟩ h1) (n0' dp ⟨by omega, by omega⟩ h2) (n0' n ⟨by omega, by omega⟩ h3)
    (by rw [t1, t3, arrV_size]; omega) (by rw [t2, t3, arrV_size]; omega)
    (fun vm₁ _ i hi => by
      rw [c3] at hi
      have e : (arrV (D.1 101) n0 (hr_vi f)).slots.getD ((hr_I sp).toNatClampNeg + i) .null = .int (hr_I (f (sp.toNat + i))) := by
        rw [c1, Array.getD_eq_getD_getElem?, arrV_read _ _ (by omega)]
        rfl
      refine ⟨?_, ?_⟩
      · rw [e]
        exact hel i hi
      · rw [e]
        exact trivial)
    (g := F0 m pc ls (.int (hr_I n) :: .int (hr_I dp) :: .ref a :: .int (hr_I sp) :: .ref a0 :: rest)) rfl (by rw [C.ml]; exact hls) (rest := rest) rfl (by rw [C.b]; exact d) hframes (by show 2 * 0 + _ + (nativeFrameWords "java/lang/System" "arraycopy" 5 + 11) ≤ _; have hw : nativeFrameWords "java/lang/System" "arraycopy" 5 = 7 := (by decide); omega)
  have e1 : copied (arrV (D.1 101) n0 (hr_vi f)) (arrV (D.1 101) n1 (hr_vi g)) (hr_I sp) (hr_I dp) (hr_I n) = arrV (D.1 101) n1 (hr_vi (va_cpy f g sp.toNat dp.toNat n.toNat)) := by
    have := va_copied (fun z => .int (hr_I z)) (D.1 101) (D.1 101) (n0 := n0) (n1 := n1) (sp := sp.toNat) (dp := dp.toNat) (n := n.toNat) f g (by omega)
    rw [← this, ← c1, ← c2, ← c3]
  rw [e1] at X' step
  have hl : a < H.size := hr_lt_of hA1
  have hheap : ((T.setVm vm').setCell a (arrV (D.1 101) n1 (hr_vi (va_cpy f g sp.toNat dp.toNat n.toNat)))).heap = H.setIfInBounds a (arrV (D.1 101) n1 (hr_vi (va_cpy f g sp.toNat dp.toNat n.toNat))) := by rw [← hT]; rfl
  have oq : ∀ q : Nat, q ≠ a → (H.setIfInBounds a (arrV (D.1 101) n1 (hr_vi (va_cpy f g sp.toNat dp.toNat n.toNat))))[q]? = H[q]? := fun q hq => by simp [Array.getElem?_setIfInBounds, Ne.symm hq]
  obtain ⟨t, a1, b1⟩ := kk _ _ (show (H.setIfInBounds a _)[a]? = some _ by simp [Array.getElem?_setIfInBounds, hl]) (by simp) oq ⟨by simp; exact hS.1, fun q g1 g2 => by
      rw [oq q (fun e => g2 (by rw [e]; exact ha))]
      exact hS.2.1 q g1 g2, fun q hq => by
      rcases List.mem_append.mp hq with h | h
      · exact hS.2.2 q h
      · obtain ⟨z, -, hz⟩ := List.mem_map.mp h
        rw [← hz]
        exact ha⟩ _ hheap X'
  exact ⟨t, step t a1, b1⟩
/-- Object[]'s class object: ldc, getClass -/
theorem hr_ldcM {index : Nat} (C : hr_C l D s0 H0 A p s m args meth c cc nL own ret) (hlink : Cond.classLink own index "[Ljava/lang/Object;" ∈ lw_all) (d : decode cc pc = .ok (.ldc index, 2)) (kk : W p l e R s m args below meth c H locs cells slots Q (F0 m (pc + 2) ls (.ref (hr_k D 3) :: rest))) : W p l e R s m args below meth c H locs cells slots Q (F0 m pc ls rest) :=
  va_ldcM C.x C.b C.ow (C.w _ hlink) (va_Mi.moved C.E.1.alike C.z.2.2.2.2.1) d kk
theorem hr_getC {index n : Nat} {f : Nat → Value} (C : hr_C l D s0 H0 A p s m args meth c cc nL own ret) (hls : ls.size = nL) (hA : hr_A H a (D.1 105) n f) (hlink : Cond.methodLink own index ⟨"java/lang/Object", "getClass", "()Ljava/lang/Class;"⟩ ∈ lw_all) (hframes : 1 ≤ R.frames) (hlocals : (rest.map fun v => v.category).sum + 14 ≤ R.locals) (d : decode cc pc = .ok (.invokevirtual index, 3)) (kk : W p l e R s m args below meth c H locs cells slots Q (F0 m (pc + 3) ls (.ref (hr_k D 3) :: rest))) : W p l e R s m args below meth c H locs cells slots Q (F0 m pc ls (.ref a :: rest)) :=
  va_getC C.x C.b (C.ml.trans hls.symm) C.ow (C.w _ hlink) (va_Dc.use (va_Dc.moved C.E.1.alike C.z.2.2.2.2.2.1)) (C.w _ q2466) (C.w _ q682) (C.w _ q706) (va_Mi.moved C.E.1.alike C.z.2.2.2.2.1) ⟨_, hA, rfl, va_nmO (C.K.2 5 _ rfl).2 rfl⟩ hframes hlocals d kk
end HRB
