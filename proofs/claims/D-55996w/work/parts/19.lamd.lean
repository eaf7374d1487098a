/-! LAMBDAS: the rows of 'invokedynamic' -/
theorem lm_inv {α : Type} {x : Array Nat} {f : Nat → Nat → Nat → Option α} {r : α} (h : Lambda.shapeOf?.match_15 (fun _ => Option α) x f (fun _ => none) = some r) : ∃ a0 a1 a2, f a0 a1 a2 = some r := by
  rcases x with ⟨_ | ⟨a0, _ | ⟨a1, _ | ⟨a2, _ | ⟨a3, L⟩⟩⟩⟩⟩
  · cases h
  · cases h
  · cases h
  · exact ⟨a0, a1, a2, h⟩
  · cases h
theorem lm_shape {cf : ClassFile} {index : Nat} {σ : Lambda.Shape} (h : Lambda.shapeOf? cf index = some σ) : ∃ (b nt : Nat) (nm desc : String) (site : MethodDescriptor), cf.constantPool[index]? = some (.invokeDynamic b nt) ∧ cf.constantPool.nameAndType? nt = some (nm, desc) ∧ parseMethodDescriptor desc = some site ∧ site.parameters = σ.captured := by
  unfold Lambda.shapeOf? at h
  split at h
  · rename_i b nt hc
    obtain ⟨entries, -, h⟩ := Option.bind_eq_some_iff.mp h
    obtain ⟨bm, -, h⟩ := Option.bind_eq_some_iff.mp h
    split at h
    · obtain ⟨_, -, h⟩ := Option.bind_eq_some_iff.mp h
      obtain ⟨a0, a1, a2, h⟩ := lm_inv h
      split at h
      · split at h
        · split at h
          · obtain ⟨⟨name, desc⟩, hnt, h⟩ := Option.bind_eq_some_iff.mp h
            obtain ⟨site, hsite, h⟩ := Option.bind_eq_some_iff.mp h
            split at h
            · obtain ⟨_, -, h⟩ := Option.bind_eq_some_iff.mp h
              obtain ⟨_, -, h⟩ := Option.bind_eq_some_iff.mp h
              obtain ⟨_, -, h⟩ := Option.bind_eq_some_iff.mp h
              obtain ⟨_, -, h⟩ := Option.bind_eq_some_iff.mp h
              obtain ⟨_, -, h⟩ := Option.bind_eq_some_iff.mp h
              obtain ⟨_, -, h⟩ := Option.bind_eq_some_iff.mp h
              cases h
              exact ⟨b, nt, name, desc, site, hc, hnt, hsite, rfl⟩
            · cases h
          · cases h
        · cases h
      · cases h
    · cases h
  · cases h
section LMD
variable {l : Launch} {D : va_G} {s0 : State} {own : String} {ret : Option FieldType} {nL : Nat}
variable {p : Program} {e : Env} {R : Room} {s : State} {m : MethodId} {args : Array Value} {below : List Frame} {meth : Method} {c : Code} {H : Heap} {locs : List Loc} {cells slots : Nat} {Q : State → Prop}
variable {cc : ByteArray} {pc : Nat} {ls : Array Slot} {rest : List Value} {A : Nat → Prop} {H0 : Heap}
/-- the object of a site that captures nothing -/
theorem lm_one (Z : hr_Z l D s0) {j : Nat} {q : MethodName × Nat × Nat × Lambda.Shape} (hj : lgs[j]? = some q) (hcap : q.2.2.2.captured = []) : hr_La D s0.heap (hr_k D (50 + j)) j [] := by
  have hz := Z.2.2.2.2.2.2.2.2.2.2 j q hj
  rw [hcap] at hz
  obtain ⟨m, kc, cf, i0, p0, l', hm, hk, hcf, hsh, hin, hfind, hmade, hcall, hl⟩ := State.lambdaAt?_spec hz
  rcases hl with ⟨a, cell, -, e1, -, h1, h2, h3, h4⟩ | ⟨-, e1, -⟩
  · cases e1
    exact ⟨cell, h1, h2, h3, fun i v h => by simp at h⟩
  · cases e1
theorem lm_const {x : MethodName} {idx j : Nat} {σ : Lambda.Shape} (hj : lgs[j]? = some (x, pc, idx, σ)) (hcap : σ.captured = []) (C : hr_C l D s0 H0 A p s m args meth c cc nL own ret) (hnm : s.methodNamed? x = some m) (hls : ls.size = nL) (hW : (rest.map fun v => v.category).sum + 3072 ≤ R.locals) (d : decode cc pc = .ok (.invokedynamic idx, 5))
    (kk : W p l e R s m args below meth c H locs cells slots Q (F0 m (pc + 5) ls (.ref (hr_k D (50 + j)) :: rest))) : W p l e R s m args below meth c H locs cells slots Q (F0 m pc ls rest) := by
  intro T hT X
  obtain ⟨t, a1, b1⟩ := kk T hT X
  refine ⟨t, ?_, b1⟩
  have hz := C.z.2.2.2.2.2.2 j _ hj
  simp only [hcap] at hz
  obtain ⟨m0, kc, cf, i0, p0, l', hm, hk, hcf, hsh, hin, hfind, hmade, hcall, hl⟩ := State.lambdaAt?_spec hz
  have hm0 : m0 = m := by
    have h9 := State.methodNamed?_setVm (s := s0) C.E.1.alike x
    rw [hm] at h9
    exact Option.some.inj (h9.symm.trans hnm)
  subst hm0
  obtain ⟨k8, hk8, he8⟩ := C.E.1.alike.2.2 _ _ hk
  rcases hl with ⟨a, cell, rfl, e1, -, -⟩ | ⟨-, e1, -⟩
  · cases e1
    exact X.lambdaConstant C.x (g := F0 m0 pc ls rest) rfl (by show ls.size = _; rw [hls, C.ml]) (index := idx) (by rw [C.b]; exact d) hk8 (by rw [he8]; exact hfind) (by rw [X.admits.platform]; show 2 * 0 + (rest.map fun v => v.category).sum + 3072 ≤ R.locals; omega) a1
  · cases e1
theorem lm_zip (tys : List FieldType) (vals : List Value) (hl : vals.length = tys.length) (hn : ∀ (i : Nat) (t : FieldType) (v : Value), tys[i]? = some t → vals[i]? = some v → narrow t v = v ∧ fits t v = true) : ((tys.zip vals).map fun (t, v) => narrow t v) = vals := by
  induction tys generalizing vals with
  | nil => cases vals with
    | nil => rfl
    | cons v vs => simp at hl
  | cons t ts ih => cases vals with
    | nil => simp at hl
    | cons v vs =>
      simp only [List.zip_cons_cons, List.map_cons]
      rw [(hn 0 t v rfl rfl).1, ih vs (by simpa using hl) (fun i t v h1 h2 => hn (i + 1) t v h1 h2)]
theorem lm_make {x : MethodName} {idx j : Nat} {σ : Lambda.Shape} {DF : ClassFile} {fw : Method} {laid : Array Field × Array FieldType × Array FieldType} {kc9 : ByteArray} {nK : Nat} {rK : Option FieldType} (file_is : σ.file "HabitRegistry$Data" = some DF) (second_is : ∀ ms, layoutMethods DF = some ms → ms[1]? = some fw) (laid_is : layoutFields DF 0 = some laid) (fc : (fw.code.map fun c => (c.code.data, c.maxLocals)) = some (kc9.data, nK)) (ff : (fw.accessFlags, fw.sig.returnType) = (0x0001, rK))
    (hj : lgs[j]? = some (x, pc, idx, σ)) (hxc : x.cls = "HabitRegistry$Data") (hcap : σ.captured ≠ []) {tys : List FieldType} (hts : laid.2.1 = tys.toArray) {vals : List Value} (hlen : vals.length = σ.captured.length) (hlen2 : vals.length = tys.length) (hn : ∀ (i : Nat) (t : FieldType) (v : Value), tys[i]? = some t → vals[i]? = some v → narrow t v = v ∧ fits t v = true)
    (C : hr_C l D s0 H0 A p s m args meth c cc nL own ret) (hnm : s.methodNamed? x = some m) (hls : ls.size = nL) (hW : ((vals.reverse ++ rest).map fun v => v.category).sum + 3072 ≤ R.locals) (hc : cells + 1 ≤ R.cells ∧ slots + vals.length ≤ R.slots) (hS : va_S A H0 H locs) (d : decode cc pc = .ok (.invokedynamic idx, 5))
    (kk : ∀ H1 : Heap, hr_La D H1 H.size j vals → hr_X H H1 → H1.size = H.size + 1 → va_S A H0 H1 locs → W p l e R s m args below meth c H1 locs (cells + 1) (slots + vals.length) Q (F0 m (pc + 5) ls (.ref H.size :: rest))) : W p l e R s m args below meth c H locs cells slots Q (F0 m pc ls (vals.reverse ++ rest)) := by
  intro T hT X
  have hz := C.z.2.2.2.2.2.2 j _ hj
  have hz1 : s0.lambdaAt? x pc idx σ = some (D.1 (200 + j), none) := by
    have hz2 : s0.lambdaAt? x pc idx σ = some (D.1 (200 + j), match σ.captured with | [] => some (D.2 100 (50 + j)) | _ => none) := hz
    rw [hz2]
    cases hq : σ.captured with
    | nil => exact absurd hq hcap
    | cons a b => rfl
  obtain ⟨m0, kc, cf, i0, p0, l', hm, hk, hcf, hsh, hin, hfind, hmade, hcall, hl⟩ := State.lambdaAt?_spec hz1
  have hm0 : m0 = m := by
    have h9 := State.methodNamed?_setVm (s := s0) C.E.1.alike x
    rw [hm] at h9
    exact Option.some.inj (h9.symm.trans hnm)
  subst hm0
  obtain ⟨k8, hk8, he8⟩ := C.E.1.alike.2.2 _ _ hk
  obtain ⟨dcl, dk, hmade, hdk, hdn, hdf, hcan⟩ := lm_site hz1 C.E.1
  obtain ⟨k, tk, file, methk, ck, tc, tg, hk9, hkn, hkf, hkp, hmk, hck, hcb, hcl, hlk, hfl, hrt, htc, htk, hti, hask, hres, hfld, hty, hord⟩ := lm_made file_is second_is laid_is fc ff hdk (by rw [hdn, hxc]) hmade (lm_obj C.Z C.E.1)
  obtain ⟨b, nt, nm, desc, site, hcp, hnt, hpd, hpar⟩ := lm_shape hsh
  have hkt : k.instanceTypes.toList = tys := by rw [hty, hts]
  have hzip : ((k.instanceTypes.toList.zip vals).map fun (t, v) => narrow t v) = vals := by rw [hkt]; exact lm_zip tys vals hlen2 hn
  rcases hl with ⟨a, cell, -, e1, -, -⟩ | ⟨rfl, -, -⟩
  · cases e1
  · obtain ⟨Y, st⟩ := X.lambdaMakes C.x (g := F0 m0 pc ls (vals.reverse ++ rest)) rfl (by show ls.size = _; rw [hls, C.ml]) (index := idx) (by rw [C.b]; exact d) hk8 (by rw [he8]; exact hfind) (by rw [he8]; exact hcf) hcp hnt (parseLong_of_parse hpd) (vals := vals) (rest := rest) (by rw [hpar]; exact hlen) rfl hk9 (by rw [X.admits.platform]; show 2 * 0 + ((vals.reverse ++ rest).map fun v => v.category).sum + 3072 ≤ R.locals; omega) hc.1 (by rw [hzip]; exact hc.2) (by
      rw [hzip]
      intro i v hv
      have hv' : vals[i]? = some v := by simpa using hv
      have hi : i < tys.length := by rw [← hlen2]; exact (List.getElem?_eq_some_iff.mp hv').1
      have ht : tys[i]? = some tys[i] := List.getElem?_eq_getElem hi
      have hti : k.instanceTypes[i]? = some tys[i] := by
        rw [hty, hts]; simpa using ht
      simp [State.fitsSlot, State.slotType?, hk9, hord, hti, (hn i _ v ht hv').2])
    rw [hzip] at Y st
    rw [hT] at st
    have hsz : (vals.toArray).size = vals.length := by simp
    rw [hsz] at Y
    have hh : (T.pushCell { cls := D.1 (200 + j), slots := vals.toArray, vm := .none }).heap[H.size]? = some { cls := D.1 (200 + j), slots := vals.toArray, vm := .none } := by rw [← hT]; exact State.heap_pushCell_size _ _
    have hz2 : (T.pushCell { cls := D.1 (200 + j), slots := vals.toArray, vm := .none }).heap.size = H.size + 1 := by rw [← hT]; simp [State.pushCell]
    have ho : ∀ q : Nat, q < H.size → (T.pushCell { cls := D.1 (200 + j), slots := vals.toArray, vm := .none }).heap[q]? = H[q]? := by
      intro q hq
      rw [← hT] at hq ⊢
      simp [State.pushCell, Array.getElem?_push, Nat.ne_of_lt hq]
    obtain ⟨t, a1, b1⟩ := kk _ ⟨_, hh, rfl, rfl, fun i v h => by simpa using h⟩ ⟨by omega, fun q hq _ => ho q hq⟩ hz2 (va_S.push hS hz2 ho) _ rfl Y
    exact ⟨t, st _ a1, b1⟩
end LMD
