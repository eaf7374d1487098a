/-! A DATA whose lists are changed: what stays -/
def ly_n (d : dt_T) : Nat → Nat
  | 0 => dt_n d
  | 1 => dt_k d
  | i + 2 => (dt_kids d i).length
def ly_f (L : ly_T) (d : dt_T) : Nat → Nat → Nat
  | 0 => ly_pa L
  | 1 => ly_ha L
  | i + 2 => fun j => ly_pa L ((dt_kids d i).getD j 0)
theorem hr_Dt.ls {D : va_G} {H : Heap} {a : Nat} {L : ly_T} {d : dt_T} (h : hr_Dt D H a L d) : ∀ x, x < dt_n d + 2 → hr_L D H (ly_ls L x) (ly_n d x) (ly_f L d x) := by
  intro x hx
  rcases x with _ | _ | i
  · exact h.2.1.1
  · exact h.2.2.1.1
  · exact h.2.1.2.2 i (by omega)
/-- the cells of some lists, and what is new -/
def hr_LS (L : ly_T) (n : Nat) (X : Nat → Prop) (H : Heap) : Nat → Prop := fun q => (∃ x, x < n + 2 ∧ X x ∧ (q = (ly_ls L x).1 ∨ (q = (ly_ls L x).2.1 ∧ 0 < (ly_ls L x).2.2.1))) ∨ H.size ≤ q
section KEEP
variable {l : Launch} {D : va_G} {s0 : State} {own : String} {ret : Option FieldType} {nL : Nat}
variable {p : Program} {e : Env} {R : Room} {s : State} {m : MethodId} {args : Array Value} {meth : Method} {c : Code} {H H1 : Heap}
variable {cc : ByteArray} {A A0 : Nat → Prop} {H0 : Heap} {a : Nat} {L : ly_T} {d : dt_T}
theorem hr_LS.noO (C : hr_C l D s0 H0 A0 p s m args meth c cc nL own ret) {X : Nat → Prop} (h : hr_Dt D H a L d) {b ci : Nat} {fs : List Value} {q : vw_C} (hO : hr_O D H b ci fs) (hc : hr_cl[ci]? = some q) (h10 : q.1 ≠ "java/util/ArrayList") (hQ : q.1 ≠ "[Ljava/lang/Object;") : ¬ hr_LS L (dt_n d) X H b := by
  rintro (⟨x, hx, -, hb⟩ | hb)
  · have hn := (h.ls x hx).neO C hO hc h10 hQ
    rcases hb with hb | hb
    · exact hn.1 hb.symm
    · exact hn.2 hb.1.symm
  · have := hO.lt; omega
theorem hr_LS.keep (C : hr_C l D s0 H0 A0 p s m args meth c cc nL own ret) (hlow : ∀ q, A q → s0.heap.size ≤ q) (hlm : (ly_lm L).1 = hr_k D 50 ∧ (ly_lm L).2.1 = hr_k D 51 ∧ (ly_lm L).2.2.1 = hr_k D 52) (h : hr_Dw D H a L d A) {X : Nat → Prop} (hF : hr_F (hr_LS L (dt_n d) X H) H H1) :
    hr_O D H1 a 1 (fs_D d L) ∧ (∀ i, i < dt_n d → hr_O D H1 (ly_pa L i) 3 (fs_P d L i)) ∧ (∀ g, g < dt_k d → hr_O D H1 (ly_ha L g) 4 (fs_H d L g)) ∧ (hr_La D H1 (ly_lm L).1 0 [] ∧ hr_La D H1 (ly_lm L).2.1 1 [] ∧ hr_La D H1 (ly_lm L).2.2.1 2 [] ∧ hr_La D H1 (ly_lm L).2.2.2 3 [.ref a]) ∧ ∀ y, y < dt_n d + 2 → ¬ X y → hr_L D H1 (ly_ls L y) (ly_n d y) (ly_f L d y) := by
  obtain ⟨hD, hAa, hAl, hSp, hAp, hAh, hA3⟩ := h
  obtain ⟨q0, q1, q2⟩ := lm_low C
  have k0 : hr_k D 0 < s0.heap.size := (C.z.2.1 : hr_A s0.heap (hr_k D 0) (D.1 105) 0 (hr_vq fun _ => none)).lt
  have low : ∀ q, q < s0.heap.size → q < H.size → ¬ hr_LS L (dt_n d) X H q := by
    rintro q h1 h2 (⟨x, hx, -, hb⟩ | hb)
    · rcases hb with hb | hb
      · have := hlow _ (hAl x hx).1; omega
      · have := hlow _ ((hAl x hx).2 hb.2); omega
    · omega
  refine ⟨hD.1.f hF (hr_LS.noO C hD hD.1 rfl (by decide) (by decide)), fun i hi => (hD.2.1.2.1 i hi).f hF (hr_LS.noO C hD (hD.2.1.2.1 i hi) rfl (by decide) (by decide)), fun g hg => (hD.2.2.1.2 g hg).f hF (hr_LS.noO C hD (hD.2.2.1.2 g hg) rfl (by decide) (by decide)), ⟨?_, ?_, ?_, ?_⟩, ?_⟩
  · exact hD.2.2.2.1.kept (hF.2 _ hD.2.2.2.1.lt (low _ (by rw [hlm.1]; exact q0) hD.2.2.2.1.lt))
  · exact hD.2.2.2.2.1.kept (hF.2 _ hD.2.2.2.2.1.lt (low _ (by rw [hlm.2.1]; exact q1) hD.2.2.2.2.1.lt))
  · exact hD.2.2.2.2.2.1.kept (hF.2 _ hD.2.2.2.2.2.1.lt (low _ (by rw [hlm.2.2]; exact q2) hD.2.2.2.2.2.1.lt))
  · refine hD.2.2.2.2.2.2.kept (hF.2 _ hD.2.2.2.2.2.2.lt ?_)
    rintro (⟨x, hx, -, hb⟩ | hb)
    · have hl := hD.ls x hx
      obtain ⟨h1, ⟨g, h3, -⟩, -⟩ := hl
      rcases hb with hb | hb
      · exact hD.2.2.2.2.2.2.ne h1 (lm_dne C 10 rfl (by decide)) hb
      · obtain ⟨cell, g1, g2, -⟩ := hD.2.2.2.2.2.2
        have h4 : H[(ly_ls L x).2.1]? = some (arrV (D.1 105) (ly_ls L x).2.2.1 (hr_vq g)) := h3
        rw [← hb.1, g1] at h4
        have h5 := congrArg Cell.cls (Option.some.inj h4)
        have h6 : D.1 (200 + 3) = D.1 105 := g2.symm.trans h5
        have hz := C.z.2.2.2.2.2.2 3 _ rfl
        obtain ⟨dcl, dk, hmade, hdk, hdn, hdf, hcan⟩ := lm_site hz C.E.1
        obtain ⟨k, tk, file, methk, ck, tc, tg, hk, hkn, -⟩ := lm_made lga3 lgb3 lge3 lgg3 lgh3 hdk hdn hmade (lm_obj C.Z C.E.1)
        obtain ⟨k2, a2, b2⟩ := Vm.findClass_spec C.fo
        rw [← h6] at a2
        cases a2.symm.trans hk
        exact absurd (b2.symm.trans hkn) (by decide)
    · have := hD.2.2.2.2.2.2.lt; omega
  · intro y hy hXy
    have hly := hD.ls y hy
    have hlyO := hly
    obtain ⟨h1, ⟨g, h3, h3'⟩, h4, h5, h6⟩ := hly
    refine hlyO.f hF ?_ ?_
    · rintro (⟨x, hx, hXx, hb⟩ | hb)
      · have hxy : y ≠ x := fun e => hXy (by rw [e]; exact hXx)
        obtain ⟨g1, ⟨g', g3, -⟩, -⟩ := hD.ls x hx
        rcases hb with hb | hb
        · exact (hSp y x hy hx hxy).1 hb
        · exact h1.neA g3 (C.do 10 rfl (by decide)) hb.1
      · have := h1.lt; omega
    · rintro (⟨x, hx, hXx, hb⟩ | hb)
      · have hxy : y ≠ x := fun e => hXy (by rw [e]; exact hXx)
        obtain ⟨g1, ⟨g', g3, -⟩, -⟩ := hD.ls x hx
        rcases hb with hb | hb
        · exact g1.neA h3 (C.do 10 rfl (by decide)) hb.symm
        · by_cases hz : 0 < (ly_ls L y).2.2.1
          · exact (hSp y x hy hx hxy).2 hz hb.2 hb.1
          · have e0 : (ly_ls L y).2.1 = hr_k D 0 := h6 (by omega)
            have := hlow _ ((hAl x hx).2 hb.2)
            rw [← hb.1, e0] at this
            omega
      · have := hlyO.lt2; omega
end KEEP
/-! a person more -/
def dt_jn (d : dt_T) (par : Option Nat) : dt_T := ((dt_n d + 1, hr_u (dt_pa d) (dt_n d) par, hr_u (dt_al d) (dt_n d) true), d.2.1, d.2.2)
theorem dt_filt {n : Nat} {f g : Nat → Option Nat} {i : Nat} (h : ∀ j, j < n → f j = g j) : (List.range n).filter (fun j => decide (f j = some i)) = (List.range n).filter (fun j => decide (g j = some i)) := by
  apply List.filter_congr
  intro j hj
  rw [h j (List.mem_range.mp hj)]
theorem dt_jn_kids {d : dt_T} (hV : dt_VP d) {par : Option Nat} {i : Nat} : dt_kids (dt_jn d par) i = if par = some i then dt_kids d i ++ [dt_n d] else dt_kids d i := by
  show (List.range (dt_n d + 1)).filter (fun j => decide (hr_u (dt_pa d) (dt_n d) par j = some i)) = _
  rw [List.range_succ, List.filter_append, dt_filt (g := dt_pa d) (fun j hj => hr_un _ _ (by omega))]
  show dt_kids d i ++ _ = _
  simp only [List.filter_cons, List.filter_nil, hr_us]
  by_cases h : par = some i <;> simp [h]
theorem dt_jn_kids_n {d : dt_T} (hV : dt_VP d) {par : Option Nat} (hpar : ∀ i, par = some i → i < dt_n d) : dt_kids (dt_jn d par) (dt_n d) = [] := by
  rw [dt_jn_kids hV, if_neg (fun z => by have := hpar _ z; omega)]
  apply List.eq_nil_iff_forall_not_mem.mpr
  intro c hc
  have := dt_kid_gt hV hc
  omega
def ly_jn (L : ly_T) (d : dt_T) (par : Option Nat) (q : Nat) (P1 C1 N : ly_L) : ly_T := (P1, ly_h L, hr_u (ly_pa L) (dt_n d) q, hr_u (match par with
  | none => ly_ch L
  | some i => hr_u (ly_ch L) i C1) (dt_n d) N, ly_ha L, ly_lm L)
/-- a list that was added to: its object stays, its array is the old one or new -/
def hr_Ad (L L1 : ly_L) (z : Nat) : Prop := L1.1 = L.1 ∧ ((L1.2.1 = L.2.1 ∧ 0 < L.2.2.1) ∨ z ≤ L1.2.1)
section JOIN
variable {l : Launch} {D : va_G} {s0 : State} {own : String} {ret : Option FieldType} {nL : Nat}
variable {p : Program} {e : Env} {R : Room} {s : State} {m : MethodId} {args : Array Value} {meth : Method} {c : Code} {H H1 : Heap}
variable {cc : ByteArray} {A A0 : Nat → Prop} {H0 : Heap} {a : Nat} {L : ly_T} {d : dt_T}
theorem ly_jn_ch {par : Option Nat} {q : Nat} {P1 C1 N : ly_L} {i : Nat} (hi : i < dt_n d) : ly_ch (ly_jn L d par q P1 C1 N) i = if par = some i then C1 else ly_ch L i := by
  show hr_u _ (dt_n d) N i = _
  rw [hr_un _ _ (by omega)]
  cases par with
  | none => simp
  | some j =>
    by_cases h : i = j
    · subst h; simp [hr_us]
    · show hr_u (ly_ch L) j C1 i = _
      rw [hr_un _ _ h, if_neg (fun z => h (by cases z; rfl))]
theorem hr_L.fn {LL : ly_L} {n : Nat} {f g : Nat → Nat} (h : hr_L D H LL n f) (e : ∀ j, j < n → f j = g j) : hr_L D H LL n g := by
  obtain ⟨h1, ⟨g9, h2, h3⟩, h4⟩ := h
  exact ⟨h1, ⟨g9, h2, fun j hj => by rw [← e j hj]; exact h3 j hj⟩, h4⟩
theorem hr_Dw.join (C : hr_C l D s0 H0 A0 p s m args meth c cc nL own ret) (hlow : ∀ q, A q → s0.heap.size ≤ q) (hnew : ∀ q, H.size ≤ q → A q) (hlm : (ly_lm L).1 = hr_k D 50 ∧ (ly_lm L).2.1 = hr_k D 51 ∧ (ly_lm L).2.2.1 = hr_k D 52) (h : hr_Dw D H a L d A) (hVV : dt_V d) {par : Option Nat} (hpar : ∀ i, par = some i → i < dt_n d) {q : Nat} {P1 C1 N : ly_L} {fN : Nat → Nat} (hq : H.size ≤ q) (hN1 : H.size ≤ N.1) (hN0 : N.2.2.1 = 0)
    (hF : hr_F (hr_LS L (dt_n d) (fun x => x = 0 ∨ ∃ i, par = some i ∧ x = i + 2) H) H H1) {z : Nat} (hz : H.size ≤ z) (hP : hr_L D H1 P1 (dt_n d + 1) (hr_u (ly_pa L) (dt_n d) q)) (hPa : hr_Ad (ly_p L) P1 H.size) (hPz : P1.2.1 < z) (hO : hr_O D H1 q 3 [.int (hr_I (dt_n d : Int)), va_rf (par.map (ly_pa L)), .ref N.1, .int (hr_I 1)]) (hN : hr_L D H1 N 0 fN)
    (hC : ∀ i, par = some i → hr_L D H1 C1 ((dt_kids d i).length + 1) (hr_u (fun j => ly_pa L ((dt_kids d i).getD j 0)) (dt_kids d i).length q) ∧ hr_Ad (ly_ch L i) C1 z) : hr_Dw D H1 a (ly_jn L d par q P1 C1 N) (dt_jn d par) A := by
  obtain ⟨kD, kP, kH, kL, kLs⟩ := hr_LS.keep C hlow hlm h hF
  obtain ⟨hD, hAa, hAl, hSp, hAp, hAh, hA3⟩ := h
  have hn1 : dt_n (dt_jn d par) = dt_n d + 1 := rfl
  have hpai : ∀ i, i < dt_n d → ly_pa (ly_jn L d par q P1 C1 N) i = ly_pa L i := fun i hi => hr_un _ _ (by omega)
  have hpan : ly_pa (ly_jn L d par q P1 C1 N) (dt_n d) = q := hr_us _ _ _
  have hchn : ly_ch (ly_jn L d par q P1 C1 N) (dt_n d) = N := hr_us _ _ _
  have hpr : ∀ i, i < dt_n d → dt_pa (dt_jn d par) i = dt_pa d i := fun i hi => hr_un _ _ (by omega)
  have hal : ∀ i, i < dt_n d → dt_al (dt_jn d par) i = dt_al d i := fun i hi => hr_un _ _ (by omega)
  have hmap : ∀ o : Option Nat, (∀ i, o = some i → i < dt_n d) → o.map (ly_pa (ly_jn L d par q P1 C1 N)) = o.map (ly_pa L) := by
    intro o ho
    cases o with
    | none => rfl
    | some i => show some _ = some _; rw [hpai i (ho i rfl)]
  have hch : ∀ i, i < dt_n d → (ly_ch (ly_jn L d par q P1 C1 N) i).1 = (ly_ch L i).1 := by
    intro i hi
    rw [ly_jn_ch hi]
    by_cases hp : par = some i
    · rw [if_pos hp]; exact (hC i hp).2.1
    · rw [if_neg hp]
  have hls : ∀ x, x < dt_n d + 2 → (ly_ls (ly_jn L d par q P1 C1 N) x).1 = (ly_ls L x).1 := by
    intro x hx
    rcases x with _ | _ | i
    · exact hPa.1
    · rfl
    · exact hch i (by omega)
  have hV := hVV.1
  refine ⟨⟨?_, ⟨hP, ?_, ?_⟩, ⟨kLs 1 (by omega) (by rintro (z | ⟨i, -, z⟩) <;> omega), ?_⟩, kL.1, kL.2.1, kL.2.2.1, kL.2.2.2⟩, hAa, ?_, ?_, ?_, hAh, hA3⟩
  · have e1 : fs_D (dt_jn d par) (ly_jn L d par q P1 C1 N) = fs_D d L := by
      show [Value.ref P1.1, _, _, _, _, _, _, _, _, _] = [_, _, _, _, _, _, _, _, _, _]
      rw [hPa.1]; rfl
    rw [e1]; exact kD
  · intro i hi
    rw [hn1] at hi
    by_cases hin : i = dt_n d
    · subst hin
      have e1 : fs_P (dt_jn d par) (ly_jn L d par q P1 C1 N) (dt_n d) = [.int (hr_I (dt_n d : Int)), va_rf (par.map (ly_pa L)), .ref N.1, .int (hr_I 1)] := by
        have g1 : dt_pa (dt_jn d par) (dt_n d) = par := hr_us _ _ _
        have g2 : dt_al (dt_jn d par) (dt_n d) = true := hr_us _ _ _
        show [_, va_rf ((dt_pa (dt_jn d par) (dt_n d)).map _), .ref (ly_ch _ (dt_n d)).1, .int (hr_I (hr_t (dt_al (dt_jn d par) (dt_n d))))] = _
        rw [g1, g2, hchn, hmap par hpar]; rfl
      rw [e1, hpan]; exact hO
    · have hi2 : i < dt_n d := by omega
      have e1 : fs_P (dt_jn d par) (ly_jn L d par q P1 C1 N) i = fs_P d L i := by
        show [_, va_rf ((dt_pa (dt_jn d par) i).map _), .ref (ly_ch _ i).1, .int (hr_I (hr_t (dt_al (dt_jn d par) i)))] = [_, _, _, _]
        rw [hpr i hi2, hal i hi2, hch i hi2, hmap _ (fun j hj => (dt_pa_lt hV hi2 hj).2)]
      rw [e1, hpai i hi2]; exact kP i hi2
  · intro i hi
    rw [hn1] at hi
    by_cases hin : i = dt_n d
    · subst hin
      rw [hchn, dt_jn_kids_n hV hpar]
      exact hN.fn (fun j hj => absurd hj (Nat.not_lt_zero j))
    · have hi2 : i < dt_n d := by omega
      rw [ly_jn_ch hi2, dt_jn_kids hV]
      by_cases hp : par = some i
      · rw [if_pos hp, if_pos hp, List.length_append, List.length_singleton]
        refine (hC i hp).1.fn (fun j hj => ?_)
        by_cases hjl : j = (dt_kids d i).length
        · subst hjl
          rw [hr_us, show (dt_kids d i ++ [dt_n d]).getD (dt_kids d i).length 0 = dt_n d by simp [List.getD_eq_getElem?_getD], hpan]
        · have hj2 : j < (dt_kids d i).length := by omega
          rw [hr_un _ _ hjl, show (dt_kids d i ++ [dt_n d]).getD j 0 = (dt_kids d i).getD j 0 by simp [List.getD_eq_getElem?_getD, List.getElem?_append_left hj2], hpai _ (dt_kid_gt hV (dt_kid_at hj2)).2]
      · rw [if_neg hp, if_neg hp]
        refine (kLs (i + 2) (by omega) (by rintro (z | ⟨j, z1, z2⟩); omega; exact hp (by rw [z1, show j = i by omega]))).fn (fun j hj => ?_)
        show ly_pa L _ = _
        rw [hpai _ (dt_kid_gt hV (dt_kid_at hj)).2]
  · intro g hg
    have hg2 : g < dt_k d := hg
    have e1 : fs_H (dt_jn d par) (ly_jn L d par q P1 C1 N) g = fs_H d L g := by
      show [_, _, _, _, _, va_rf ((dt_ho d g).map _)] = [_, _, _, _, _, _]
      rw [hmap _ (fun j hj => (hVV.2.2.1 g hg2 j hj).1)]; rfl
    rw [e1]; exact kH g hg2
  · intro x hx
    rw [hn1] at hx
    rcases x with _ | _ | i
    · refine ⟨by show A P1.1; rw [hPa.1]; exact (hAl 0 (by omega)).1, fun hc => ?_⟩
      rcases hPa.2 with h9 | h9
      · show A P1.2.1; rw [h9.1]; exact (hAl 0 (by omega)).2 h9.2
      · exact hnew _ h9
    · exact hAl 1 (by omega)
    · by_cases hin : i = dt_n d
      · subst hin
        show hr_Lw A (ly_ch _ (dt_n d))
        rw [hchn]
        exact ⟨hnew _ hN1, fun hc => by omega⟩
      · have hi2 : i < dt_n d := by omega
        show hr_Lw A (ly_ch _ i)
        rw [ly_jn_ch hi2]
        by_cases hp : par = some i
        · rw [if_pos hp]
          refine ⟨by rw [(hC i hp).2.1]; exact (hAl (i + 2) (by omega)).1, fun hc => ?_⟩
          rcases (hC i hp).2.2 with h9 | h9
          · rw [h9.1]; exact (hAl (i + 2) (by omega)).2 h9.2
          · exact hnew _ (by omega)
        · rw [if_neg hp]; exact hAl (i + 2) (by omega)
  · have hob : ∀ x, x < dt_n d + 2 → (ly_ls L x).1 < H.size ∧ (ly_ls L x).2.1 < H.size := fun x hx => ⟨(hD.ls x hx).1.lt, (hD.ls x hx).lt2⟩
    have hlast : ly_ls (ly_jn L d par q P1 C1 N) (dt_n d + 2) = N := hchn
    have harr : ∀ x, x < dt_n d + 2 → 0 < (ly_ls (ly_jn L d par q P1 C1 N) x).2.2.1 → ((ly_ls (ly_jn L d par q P1 C1 N) x).2.1 = (ly_ls L x).2.1 ∧ 0 < (ly_ls L x).2.2.1) ∨ (x = 0 ∧ H.size ≤ (ly_ls (ly_jn L d par q P1 C1 N) x).2.1 ∧ (ly_ls (ly_jn L d par q P1 C1 N) x).2.1 < z) ∨ (∃ i, par = some i ∧ x = i + 2 ∧ z ≤ (ly_ls (ly_jn L d par q P1 C1 N) x).2.1) := by
      intro x hx hc
      rcases x with _ | _ | i
      · rcases hPa.2 with h9 | h9
        · exact Or.inl h9
        · exact Or.inr (Or.inl ⟨rfl, h9, hPz⟩)
      · exact Or.inl ⟨rfl, hc⟩
      · have hi2 : i < dt_n d := by omega
        have e0 : ly_ls (ly_jn L d par q P1 C1 N) (i + 2) = if par = some i then C1 else ly_ch L i := ly_jn_ch hi2
        by_cases hp : par = some i
        · rw [e0, if_pos hp] at hc ⊢
          rcases (hC i hp).2.2 with h9 | h9
          · exact Or.inl h9
          · exact Or.inr (Or.inr ⟨i, hp, rfl, h9⟩)
        · rw [e0, if_neg hp] at hc ⊢
          exact Or.inl ⟨rfl, hc⟩
    intro x y hx hy hxy
    rw [hn1] at hx hy
    by_cases hxn : x = dt_n d + 2
    · subst hxn
      have hy2 : y < dt_n d + 2 := by omega
      have := (hob y hy2).1
      rw [hlast, hls y hy2]
      exact ⟨by omega, fun hc => by omega⟩
    · have hx2 : x < dt_n d + 2 := by omega
      by_cases hyn : y = dt_n d + 2
      · subst hyn
        have := (hob x hx2).1
        rw [hlast, hls x hx2]
        exact ⟨by omega, fun _ hc => by omega⟩
      · have hy2 : y < dt_n d + 2 := by omega
        refine ⟨by rw [hls x hx2, hls y hy2]; exact (hSp x y hx2 hy2 hxy).1, fun c1 c2 => ?_⟩
        have ox := (hob x hx2).2
        have oy := (hob y hy2).2
        rcases harr x hx2 c1 with a1 | a1 | ⟨i, a0, a1, a2⟩ <;> rcases harr y hy2 c2 with b1 | b1 | ⟨j, b0, b1, b2⟩
        · rw [a1.1, b1.1]; exact (hSp x y hx2 hy2 hxy).2 a1.2 b1.2
        · rw [a1.1]; omega
        · rw [a1.1]; omega
        · rw [b1.1]; omega
        · omega
        · omega
        · rw [b1.1]; omega
        · omega
        · exact absurd (by rw [a0] at b0; cases b0; omega) hxy
  · intro i hi
    rw [hn1] at hi
    by_cases hin : i = dt_n d
    · subst hin; rw [hpan]; exact hnew _ hq
    · rw [hpai i (by omega)]; exact hAp i (by omega)
end JOIN
