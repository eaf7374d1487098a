/-! A DATA THAT IS CHANGED: its cells, all in A; what a change of one object leaves -/
def hr_Lw (A : Nat → Prop) (L : ly_L) : Prop := A L.1 ∧ (0 < L.2.2.1 → A L.2.1)
/-- the lists: people, habits, children by person -/
def ly_ls (L : ly_T) : Nat → ly_L
  | 0 => ly_p L
  | 1 => ly_h L
  | i + 2 => ly_ch L i
def hr_Sep (f : Nat → ly_L) (n : Nat) : Prop := ∀ x y, x < n → y < n → x ≠ y → (f x).1 ≠ (f y).1 ∧ (0 < (f x).2.2.1 → 0 < (f y).2.2.1 → (f x).2.1 ≠ (f y).2.1)
def hr_Dw (D : va_G) (H : Heap) (a : Nat) (L : ly_T) (d : dt_T) (A : Nat → Prop) : Prop := hr_Dt D H a L d ∧ A a ∧ (∀ x, x < dt_n d + 2 → hr_Lw A (ly_ls L x)) ∧ hr_Sep (ly_ls L) (dt_n d + 2) ∧ (∀ i, i < dt_n d → A (ly_pa L i)) ∧ (∀ h, h < dt_k d → A (ly_ha L h)) ∧ A (ly_lm L).2.2.2
theorem hr_hh.inj {D : va_G} {H : Heap} {L : ly_T} {d : dt_T} (h : hr_hh D H L d) (hn : dt_k d ≤ 20) {i j : Nat} (hi : i < dt_k d) (hj : j < dt_k d) (e : ly_ha L i = ly_ha L j) : i = j := by
  have h1 := h.2 i hi
  have h2 := h.2 j hj
  rw [e] at h1
  have h3 := hr_O.same h1 h2 rfl (k := 0) (by decide)
  have h4 : (Value.int (hr_I (i : Int))) = .int (hr_I (j : Int)) := h3
  have h5 : hr_I (i : Int) = hr_I (j : Int) := by injection h4
  have := (hr_eq ⟨by omega, by omega⟩ ⟨by omega, by omega⟩).mp h5
  omega
/-- only x is changed of what was there -/
def hr_F1 (x : Nat) (H H1 : Heap) : Prop := hr_F (fun q => q = x ∨ H.size ≤ q) H H1
theorem hr_F1.o {x : Nat} {H H1 : Heap} (h : hr_F1 x H H1) : ∀ q : Nat, q < H.size → q ≠ x → H1[q]? = H[q]? := fun q h1 h2 => h.2 q h1 (fun z => z.elim h2 (fun z => by omega))
theorem hr_F1.put {x : Nat} {H H1 : Heap} (hz : H1.size = H.size) (ho : ∀ q : Nat, q ≠ x → H1[q]? = H[q]?) : hr_F1 x H H1 := ⟨by omega, fun q h1 h2 => ho q (fun e => h2 (Or.inl e))⟩
theorem hr_F1.tr {x : Nat} {H H1 H2 : Heap} (h : hr_F1 x H H1) (h2 : hr_F1 x H1 H2) : hr_F1 x H H2 := ⟨Nat.le_trans h.1 h2.1, fun q a b => (h2.o q (Nat.lt_of_lt_of_le a h.1) (fun e => b (Or.inl e))).trans (h.o q a (fun e => b (Or.inl e)))⟩
theorem hr_F1.x {x : Nat} {H H1 : Heap} (h : hr_X H H1) : hr_F1 x H H1 := ⟨h.1, fun q a b => h.at a⟩
theorem hr_L.lt2 {D : va_G} {H : Heap} {L : ly_L} {n : Nat} {f : Nat → Nat} (h : hr_L D H L n f) : L.2.1 < H.size := by
  obtain ⟨-, ⟨g, h2, -⟩, -⟩ := h
  exact h2.lt
section MUT
variable {l : Launch} {D : va_G} {s0 : State} {own : String} {ret : Option FieldType} {nL : Nat}
variable {p : Program} {e : Env} {R : Room} {s : State} {m : MethodId} {args : Array Value} {meth : Method} {c : Code} {H H1 : Heap}
variable {cc : ByteArray} {A A0 : Nat → Prop} {H0 : Heap} {a : Nat} {L : ly_T} {d : dt_T}
/-- a made class isn't one of the system's -/
theorem lm_dne (C : hr_C l D s0 H0 A0 p s m args meth c cc nL own ret) (ci : Nat) {q : vw_C} (hc : hr_cl[ci]? = some q) (hq : q.1 ≠ "HabitRegistry$Data$$Lambda") : D.1 (200 + 3) ≠ D.1 ci := by
  have hz := C.z.2.2.2.2.2.2 3 _ rfl
  obtain ⟨dcl, dk, hmade, hdk, hdn, hdf, hcan⟩ := lm_site hz C.E.1
  obtain ⟨k, tk, file, methk, ck, tc, tg, hk, hkn, -⟩ := lm_made lga3 lgb3 lge3 lgg3 lgh3 hdk hdn hmade (lm_obj C.Z C.E.1)
  obtain ⟨k2, a2, b2⟩ := Vm.findClass_spec (C.fc ci hc)
  intro e9
  rw [← e9] at a2
  cases a2.symm.trans hk
  exact hq (b2.symm.trans hkn)
theorem hr_La.ne {t j b ci : Nat} {sl fs : List Value} (h : hr_La D H t j sl) (h2 : hr_O D H b ci fs) (hd : D.1 (200 + j) ≠ D.1 ci) : t ≠ b := by
  intro e
  subst e
  obtain ⟨cell, g1, g2, -⟩ := h
  obtain ⟨_, _, cell2, r1, r2, -⟩ := h2
  rw [g1] at r1
  cases r1
  exact hd (g2.symm.trans r2)
theorem hr_L.neO {L : ly_L} {n : Nat} {f : Nat → Nat} {b ci : Nat} {fs : List Value} {q : vw_C} (C : hr_C l D s0 H0 A0 p s m args meth c cc nL own ret) (h : hr_L D H L n f) (h2 : hr_O D H b ci fs) (hc : hr_cl[ci]? = some q) (h10 : q.1 ≠ "java/util/ArrayList") (hO : q.1 ≠ "[Ljava/lang/Object;") : L.1 ≠ b ∧ L.2.1 ≠ b := by
  obtain ⟨h1, ⟨g, h3, -⟩, -⟩ := h
  exact ⟨h1.ne h2 (C.dd 10 ci rfl hc (fun z => h10 z.symm)), fun z => h2.neA h3 (C.do ci hc hO) z.symm⟩
/-- the constants' objects lie below -/
theorem lm_low (C : hr_C l D s0 H0 A0 p s m args meth c cc nL own ret) : hr_k D 50 < s0.heap.size ∧ hr_k D 51 < s0.heap.size ∧ hr_k D 52 < s0.heap.size := ⟨(lm_one C.Z (j := 0) rfl rfl).lt, (lm_one C.Z (j := 1) rfl rfl).lt, (lm_one C.Z (j := 2) rfl rfl).lt⟩
theorem hr_Dt.lists (h : hr_Dt D H a L d) : hr_L D H (ly_p L) (dt_n d) (ly_pa L) ∧ hr_L D H (ly_h L) (dt_k d) (ly_ha L) ∧ ∀ i, i < dt_n d → hr_L D H (ly_ch L i) (dt_kids d i).length (fun j => ly_pa L ((dt_kids d i).getD j 0)) := ⟨h.2.1.1, h.2.2.1.1, fun i hi => h.2.1.2.2 i hi⟩
/-- a habit is changed -/
theorem hr_Dw.upH (C : hr_C l D s0 H0 A0 p s m args meth c cc nL own ret) (hlow : ∀ q, A q → s0.heap.size ≤ q) (hlm : (ly_lm L).1 = hr_k D 50 ∧ (ly_lm L).2.1 = hr_k D 51 ∧ (ly_lm L).2.2.1 = hr_k D 52) (h : hr_Dw D H a L d A) (hk : dt_k d ≤ 20) {x : Nat} (hx : x < dt_k d) {d1 : dt_T} (e1 : d1.1 = d.1) (e2 : dt_k d1 = dt_k d) (e3 : d1.2.2 = d.2.2) (hs : ∀ g, g < dt_k d → g ≠ x → fs_H d1 L g = fs_H d L g) (hO : hr_O D H1 (ly_ha L x) 4 (fs_H d1 L x)) (hF : hr_F1 (ly_ha L x) H H1) : hr_Dw D H1 a L d1 A := by
  obtain ⟨hD, hAa, hAl, hSp, hAp, hAh, hA3⟩ := h
  have ho := hF.o
  have hn : dt_n d1 = dt_n d := by show d1.1.1 = d.1.1; rw [e1]
  have hpa : dt_pa d1 = dt_pa d := by show d1.1.2.1 = d.1.2.1; rw [e1]
  have hkids : dt_kids d1 = dt_kids d := by funext i; unfold dt_kids; rw [hn, hpa]
  have hfsP : ∀ i, fs_P d1 L i = fs_P d L i := fun i => by unfold fs_P dt_al; rw [hpa, e1]
  have hfsD : fs_D d1 L = fs_D d L := by unfold fs_D dt_yr dt_la dt_me dt_br; rw [e3]
  have hX := hD.2.2.1.2 x hx
  have hlx := hlow _ (hAh x hx)
  obtain ⟨q0, q1, q2⟩ := lm_low C
  obtain ⟨l1, l2, l3⟩ := hD.lists
  have keepL : ∀ {L9 : ly_L} {n : Nat} {f : Nat → Nat}, hr_L D H L9 n f → hr_L D H1 L9 n f := fun h9 => h9.kept (ho _ h9.1.lt (h9.neO C hX rfl (by decide) (by decide)).1) (ho _ h9.lt2 (h9.neO C hX rfl (by decide) (by decide)).2)
  refine ⟨⟨?_, ⟨?_, ?_, ?_⟩, ⟨?_, ?_⟩, ?_, ?_, ?_, ?_⟩, hAa, by rw [hn]; exact hAl, by rw [hn]; exact hSp, by rw [hn]; exact hAp, by rw [e2]; exact hAh, hA3⟩
  · rw [hfsD]; exact hD.1.kept (ho _ hD.1.lt (hD.1.ne hX (C.dd 1 4 rfl rfl (by decide))))
  · rw [hn]; exact keepL l1
  · intro i hi; rw [hn] at hi; rw [hfsP]; exact (hD.2.1.2.1 i hi).kept (ho _ (hD.2.1.2.1 i hi).lt ((hD.2.1.2.1 i hi).ne hX (C.dd 3 4 rfl rfl (by decide))))
  · intro i hi; rw [hn] at hi; rw [hkids]; exact keepL (l3 i hi)
  · rw [e2]; exact keepL l2
  · intro g hg
    rw [e2] at hg
    by_cases hgx : g = x
    · rw [hgx]; exact hO
    · rw [hs g hg hgx]; exact (hD.2.2.1.2 g hg).kept (ho _ (hD.2.2.1.2 g hg).lt (fun z => hgx (hD.2.2.1.inj hk hg hx z)))
  · exact hD.2.2.2.1.kept (ho _ hD.2.2.2.1.lt (by rw [hlm.1]; omega))
  · exact hD.2.2.2.2.1.kept (ho _ hD.2.2.2.2.1.lt (by rw [hlm.2.1]; omega))
  · exact hD.2.2.2.2.2.1.kept (ho _ hD.2.2.2.2.2.1.lt (by rw [hlm.2.2]; omega))
  · exact hD.2.2.2.2.2.2.kept (ho _ hD.2.2.2.2.2.2.lt (hD.2.2.2.2.2.2.ne hX (lm_dne C 4 rfl (by decide))))
/-- the Data's own numbers are changed -/
theorem hr_Dw.upD (C : hr_C l D s0 H0 A0 p s m args meth c cc nL own ret) (hlow : ∀ q, A q → s0.heap.size ≤ q) (hlm : (ly_lm L).1 = hr_k D 50 ∧ (ly_lm L).2.1 = hr_k D 51 ∧ (ly_lm L).2.2.1 = hr_k D 52) (h : hr_Dw D H a L d A) {d1 : dt_T} (e1 : d1.1 = d.1) (e2 : d1.2.1 = d.2.1) (hO : hr_O D H1 a 1 (fs_D d1 L)) (hF : hr_F1 a H H1) : hr_Dw D H1 a L d1 A := by
  obtain ⟨hD, hAa, hAl, hSp, hAp, hAh, hA3⟩ := h
  have ho := hF.o
  have hn : dt_n d1 = dt_n d := by show d1.1.1 = d.1.1; rw [e1]
  have hk : dt_k d1 = dt_k d := by show d1.2.1.1 = d.2.1.1; rw [e2]
  have hpa : dt_pa d1 = dt_pa d := by show d1.1.2.1 = d.1.2.1; rw [e1]
  have hkids : dt_kids d1 = dt_kids d := by funext i; unfold dt_kids; rw [hn, hpa]
  have hfsP : ∀ i, fs_P d1 L i = fs_P d L i := fun i => by unfold fs_P dt_al; rw [hpa, e1]
  have hfsH : ∀ i, fs_H d1 L i = fs_H d L i := fun i => by unfold fs_H dt_ki dt_st dt_en dt_pr dt_ho; rw [e2]
  have hX := hD.1
  have hlx := hlow _ hAa
  obtain ⟨q0, q1, q2⟩ := lm_low C
  obtain ⟨l1, l2, l3⟩ := hD.lists
  have keepL : ∀ {L9 : ly_L} {n : Nat} {f : Nat → Nat}, hr_L D H L9 n f → hr_L D H1 L9 n f := fun h9 => h9.kept (ho _ h9.1.lt (h9.neO C hX rfl (by decide) (by decide)).1) (ho _ h9.lt2 (h9.neO C hX rfl (by decide) (by decide)).2)
  refine ⟨⟨hO, ⟨?_, ?_, ?_⟩, ⟨?_, ?_⟩, ?_, ?_, ?_, ?_⟩, hAa, by rw [hn]; exact hAl, by rw [hn]; exact hSp, by rw [hn]; exact hAp, by rw [hk]; exact hAh, hA3⟩
  · rw [hn]; exact keepL l1
  · intro i hi; rw [hn] at hi; rw [hfsP]; exact (hD.2.1.2.1 i hi).kept (ho _ (hD.2.1.2.1 i hi).lt ((hD.2.1.2.1 i hi).ne hX (C.dd 3 1 rfl rfl (by decide))))
  · intro i hi; rw [hn] at hi; rw [hkids]; exact keepL (l3 i hi)
  · rw [hk]; exact keepL l2
  · intro g hg; rw [hk] at hg; rw [hfsH]; exact (hD.2.2.1.2 g hg).kept (ho _ (hD.2.2.1.2 g hg).lt ((hD.2.2.1.2 g hg).ne hX (C.dd 4 1 rfl rfl (by decide))))
  · exact hD.2.2.2.1.kept (ho _ hD.2.2.2.1.lt (by rw [hlm.1]; omega))
  · exact hD.2.2.2.2.1.kept (ho _ hD.2.2.2.2.1.lt (by rw [hlm.2.1]; omega))
  · exact hD.2.2.2.2.2.1.kept (ho _ hD.2.2.2.2.2.1.lt (by rw [hlm.2.2]; omega))
  · exact hD.2.2.2.2.2.2.kept (ho _ hD.2.2.2.2.2.2.lt (hD.2.2.2.2.2.2.ne hX (lm_dne C 1 rfl (by decide))))
/-- a person lives, or not -/
theorem hr_Dw.upP (C : hr_C l D s0 H0 A0 p s m args meth c cc nL own ret) (hlow : ∀ q, A q → s0.heap.size ≤ q) (hlm : (ly_lm L).1 = hr_k D 50 ∧ (ly_lm L).2.1 = hr_k D 51 ∧ (ly_lm L).2.2.1 = hr_k D 52) (h : hr_Dw D H a L d A) (hn16 : dt_n d ≤ 16) {x : Nat} (hx : x < dt_n d) {d1 : dt_T} (hn : dt_n d1 = dt_n d) (hpa : dt_pa d1 = dt_pa d) (e2 : d1.2 = d.2) (hs : ∀ g, g < dt_n d → g ≠ x → dt_al d1 g = dt_al d g) (hO : hr_O D H1 (ly_pa L x) 3 (fs_P d1 L x)) (hF : hr_F1 (ly_pa L x) H H1) : hr_Dw D H1 a L d1 A := by
  obtain ⟨hD, hAa, hAl, hSp, hAp, hAh, hA3⟩ := h
  have ho := hF.o
  have hk : dt_k d1 = dt_k d := by show d1.2.1.1 = d.2.1.1; rw [e2]
  have hkids : dt_kids d1 = dt_kids d := by funext i; unfold dt_kids; rw [hn, hpa]
  have hfsP : ∀ i, i < dt_n d → i ≠ x → fs_P d1 L i = fs_P d L i := fun i hi hix => by unfold fs_P; rw [hpa, hs i hi hix]
  have hfsH : ∀ i, fs_H d1 L i = fs_H d L i := fun i => by unfold fs_H dt_ki dt_st dt_en dt_pr dt_ho; rw [e2]
  have hfsD : fs_D d1 L = fs_D d L := by unfold fs_D dt_yr dt_la dt_me dt_br; rw [e2]
  have hX := hD.2.1.2.1 x hx
  have hlx := hlow _ (hAp x hx)
  obtain ⟨q0, q1, q2⟩ := lm_low C
  obtain ⟨l1, l2, l3⟩ := hD.lists
  have keepL : ∀ {L9 : ly_L} {n : Nat} {f : Nat → Nat}, hr_L D H L9 n f → hr_L D H1 L9 n f := fun h9 => h9.kept (ho _ h9.1.lt (h9.neO C hX rfl (by decide) (by decide)).1) (ho _ h9.lt2 (h9.neO C hX rfl (by decide) (by decide)).2)
  refine ⟨⟨?_, ⟨?_, ?_, ?_⟩, ⟨?_, ?_⟩, ?_, ?_, ?_, ?_⟩, hAa, by rw [hn]; exact hAl, by rw [hn]; exact hSp, by rw [hn]; exact hAp, by rw [hk]; exact hAh, hA3⟩
  · rw [hfsD]; exact hD.1.kept (ho _ hD.1.lt (hD.1.ne hX (C.dd 1 3 rfl rfl (by decide))))
  · rw [hn]; exact keepL l1
  · intro i hi
    rw [hn] at hi
    by_cases hix : i = x
    · rw [hix]; exact hO
    · rw [hfsP i hi hix]; exact (hD.2.1.2.1 i hi).kept (ho _ (hD.2.1.2.1 i hi).lt (fun z => hix (hD.2.1.inj hn16 hi hx z)))
  · intro i hi; rw [hn] at hi; rw [hkids]; exact keepL (l3 i hi)
  · rw [hk]; exact keepL l2
  · intro g hg; rw [hk] at hg; rw [hfsH]; exact (hD.2.2.1.2 g hg).kept (ho _ (hD.2.2.1.2 g hg).lt ((hD.2.2.1.2 g hg).ne hX (C.dd 4 3 rfl rfl (by decide))))
  · exact hD.2.2.2.1.kept (ho _ hD.2.2.2.1.lt (by rw [hlm.1]; omega))
  · exact hD.2.2.2.2.1.kept (ho _ hD.2.2.2.2.1.lt (by rw [hlm.2.1]; omega))
  · exact hD.2.2.2.2.2.1.kept (ho _ hD.2.2.2.2.2.1.lt (by rw [hlm.2.2]; omega))
  · exact hD.2.2.2.2.2.2.kept (ho _ hD.2.2.2.2.2.2.lt (hD.2.2.2.2.2.2.ne hX (lm_dne C 3 rfl (by decide))))
end MUT
