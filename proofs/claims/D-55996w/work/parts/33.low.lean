/-! a Data's cells lie in the heap; a smaller A (a loop's iterator isn't of them) -/
theorem hr_Dw.mono {D : va_G} {H : Heap} {a : Nat} {L : ly_T} {d : dt_T} {A B : Nat → Prop} (h : hr_Dw D H a L d A) (hAB : ∀ q, A q → B q) : hr_Dw D H a L d B :=
  ⟨h.1, hAB _ h.2.1, fun x hx => ⟨hAB _ (h.2.2.1 x hx).1, fun hc => hAB _ ((h.2.2.1 x hx).2 hc)⟩, h.2.2.2.1, fun i hi => hAB _ (h.2.2.2.2.1 i hi), fun i hi => hAB _ (h.2.2.2.2.2.1 i hi), hAB _ h.2.2.2.2.2.2⟩
theorem hr_Dw.low {D : va_G} {H : Heap} {a : Nat} {L : ly_T} {d : dt_T} {A : Nat → Prop} (h : hr_Dw D H a L d A) : hr_Dw D H a L d (fun q => A q ∧ q < H.size) :=
  ⟨h.1, ⟨h.2.1, h.1.1.lt⟩, fun x hx => ⟨⟨(h.2.2.1 x hx).1, (h.1.ls x hx).1.lt⟩, fun hc => ⟨(h.2.2.1 x hx).2 hc, (h.1.ls x hx).lt2⟩⟩, h.2.2.2.1, fun i hi => ⟨h.2.2.2.2.1 i hi, (h.1.2.1.2.1 i hi).lt⟩, fun i hi => ⟨h.2.2.2.2.2.1 i hi, (h.1.2.2.1.2 i hi).lt⟩, ⟨h.2.2.2.2.2.2, h.1.2.2.2.2.2.2.lt⟩⟩
def dt_b0 (d : dt_T) (i : Nat) : dt_T := ((dt_n d, dt_pa d, hr_u (dt_al d) i false), d.2.1, d.2.2)
/-- the habits of a dead person pass on, one after the other -/
def dt_burk (i : Nat) (d : dt_T) : Nat → dt_T × Nat
  | 0 => (d, 0)
  | k + 1 => if dt_ho (dt_burk i d k).1 k = some i then ((dt_pas (dt_burk i d k).1 k (if dt_en (dt_burk i d k).1 k = true then dt_fl (dt_burk i d k).1 none i else dt_he (dt_burk i d k).1 i)).1, (dt_burk i d k).2 + (if (dt_pas (dt_burk i d k).1 k (if dt_en (dt_burk i d k).1 k = true then dt_fl (dt_burk i d k).1 none i else dt_he (dt_burk i d k).1 i)).2 = true then 1 else 0)) else dt_burk i d k
def dt_bur (d : dt_T) (i : Nat) : Except (Int × Int) (dt_T × Int) := if dt_al d i = false then .error (3, i) else .ok ((dt_burk i (dt_b0 d i) (dt_k d)).1, ((dt_burk i (dt_b0 d i) (dt_k d)).2 : Int))
theorem dt_pas_1 (d : dt_T) (h : Nat) (x : Option Nat) : (dt_pas d h x).1.1 = d.1 ∧ dt_k (dt_pas d h x).1 = dt_k d := by
  unfold dt_pas
  cases x with
  | none => exact ⟨rfl, rfl⟩
  | some j =>
    cases hof : dt_hof d j (dt_ch (dt_ki d h)) <;> simp only [hof] <;> exact ⟨rfl, rfl⟩
theorem dt_burk_1 (i : Nat) (d : dt_T) : ∀ k, (dt_burk i d k).1.1 = d.1 ∧ dt_k (dt_burk i d k).1 = dt_k d
  | 0 => ⟨rfl, rfl⟩
  | k + 1 => by
    have ih := dt_burk_1 i d k
    unfold dt_burk
    split
    · have h := dt_pas_1 (dt_burk i d k).1 k (if dt_en (dt_burk i d k).1 k = true then dt_fl (dt_burk i d k).1 none i else dt_he (dt_burk i d k).1 i)
      exact ⟨h.1.trans ih.1, h.2.trans ih.2⟩
    · exact ih
theorem dt_b0_V {d : dt_T} (hV : dt_V d) (i : Nat) : dt_V (dt_b0 d i) := hV
section FR
variable {l : Launch} {D : va_G} {s0 : State} {own : String} {ret : Option FieldType} {nL : Nat}
variable {p : Program} {e : Env} {R : Room} {s : State} {m : MethodId} {args : Array Value} {meth : Method} {c : Code} {H H1 : Heap}
variable {cc : ByteArray} {A A0 S : Nat → Prop} {H0 : Heap} {a : Nat} {L : ly_T} {d : dt_T}
/-- a change elsewhere -/
theorem hr_Dw.fr (C : hr_C l D s0 H0 A0 p s m args meth c cc nL own ret) (hlm : (ly_lm L).1 = hr_k D 50 ∧ (ly_lm L).2.1 = hr_k D 51 ∧ (ly_lm L).2.2.1 = hr_k D 52) (h : hr_Dw D H a L d A) (hF : hr_F S H H1) (hS : ∀ q, S q → s0.heap.size ≤ q ∧ ¬ A q) : hr_Dw D H1 a L d A := by
  obtain ⟨hD, hAa, hAl, hSp, hAp, hAh, hA3⟩ := h
  obtain ⟨q0, q1, q2⟩ := lm_low C
  have k0 : hr_k D 0 < s0.heap.size := (C.z.2.1 : hr_A s0.heap (hr_k D 0) (D.1 105) 0 (hr_vq fun _ => none)).lt
  have inA : ∀ q, A q → ¬ S q := fun q h1 h2 => (hS q h2).2 h1
  have low : ∀ q, q < s0.heap.size → ¬ S q := fun q h1 h2 => by have := (hS q h2).1; omega
  have kl : ∀ x, x < dt_n d + 2 → hr_L D H1 (ly_ls L x) (ly_n d x) (ly_f L d x) := by
    intro x hx
    have hl := hD.ls x hx
    refine hl.f hF (inA _ (hAl x hx).1) ?_
    by_cases hz : 0 < (ly_ls L x).2.2.1
    · exact inA _ ((hAl x hx).2 hz)
    · have e0 : (ly_ls L x).2.1 = hr_k D 0 := hl.2.2.2.2 (by omega)
      rw [e0]; exact low _ k0
  refine ⟨⟨hD.1.f hF (inA _ hAa), ⟨kl 0 (by omega), fun i hi => (hD.2.1.2.1 i hi).f hF (inA _ (hAp i hi)), fun i hi => kl (i + 2) (by omega)⟩, ⟨kl 1 (by omega), fun g hg => (hD.2.2.1.2 g hg).f hF (inA _ (hAh g hg))⟩, ?_, ?_, ?_, ?_⟩, hAa, hAl, hSp, hAp, hAh, hA3⟩
  · exact hD.2.2.2.1.kept (hF.2 _ hD.2.2.2.1.lt (low _ (by rw [hlm.1]; exact q0)))
  · exact hD.2.2.2.2.1.kept (hF.2 _ hD.2.2.2.2.1.lt (low _ (by rw [hlm.2.1]; exact q1)))
  · exact hD.2.2.2.2.2.1.kept (hF.2 _ hD.2.2.2.2.2.1.lt (low _ (by rw [hlm.2.2]; exact q2)))
  · exact hD.2.2.2.2.2.2.kept (hF.2 _ hD.2.2.2.2.2.2.lt (inA _ hA3))
end FR
theorem dt_flf_ne {d : dt_T} {ex : Option Nat} : ∀ (f i x : Nat), dt_flf d ex f i = some x → some x ≠ ex := by
  intro f
  induction f with
  | zero => intro i x hx; simp [dt_flf] at hx
  | succ f ih =>
    intro i x hx
    simp only [dt_flf] at hx
    obtain ⟨c, hc, hcx⟩ := List.exists_of_findSome?_eq_some hx
    split at hcx
    · rename_i hq
      cases hcx
      exact hq.2
    · exact ih c x hcx
theorem dt_fl_self {d : dt_T} (hV : dt_VP d) {ex : Option Nat} {i j : Nat} (h : dt_fl d ex i = some j) : j ≠ i ∧ j < dt_n d := by
  have := dt_fl_lt hV ex _ i j h
  exact ⟨by omega, this.1⟩
theorem dt_he_self {d : dt_T} (hV : dt_VP d) {i j : Nat} (hi : i < dt_n d) (h : dt_he d i = some j) : j ≠ i ∧ j < dt_n d := by
  unfold dt_he at h
  cases h1 : dt_fl d none i with
  | some y => rw [h1] at h; cases h; exact dt_fl_self hV h1
  | none =>
    rw [h1, Option.none_or] at h
    obtain ⟨a, ha, hax⟩ := List.exists_of_findSome?_eq_some h
    have hlt := dt_up_lt hV i hi a ha
    split at hax
    · cases hax; exact ⟨by omega, by omega⟩
    · exact ⟨fun e => dt_flf_ne _ _ _ hax (by rw [e]), (dt_fl_self hV hax).2⟩
