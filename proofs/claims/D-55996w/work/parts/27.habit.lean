/-! a habit more -/
def dt_nh (d : dt_T) (i kk sv : Nat) : dt_T := (d.1, (dt_k d + 1, hr_u (dt_ho d) (dt_k d) (some i), hr_u (dt_ki d) (dt_k d) kk, hr_u (dt_st d) (dt_k d) sv, hr_u (dt_en d) (dt_k d) false, hr_u (dt_pr d) (dt_k d) false), d.2.2)
def ly_nh (L : ly_T) (d : dt_T) (q : Nat) (Q1 : ly_L) : ly_T := (ly_p L, Q1, ly_pa L, ly_ch L, hr_u (ly_ha L) (dt_k d) q, ly_lm L)
section NH
variable {l : Launch} {D : va_G} {s0 : State} {own : String} {ret : Option FieldType} {nL : Nat}
variable {p : Program} {e : Env} {R : Room} {s : State} {m : MethodId} {args : Array Value} {meth : Method} {c : Code} {H H1 : Heap}
variable {cc : ByteArray} {A A0 : Nat → Prop} {H0 : Heap} {a : Nat} {L : ly_T} {d : dt_T}
theorem hr_Dw.habit (C : hr_C l D s0 H0 A0 p s m args meth c cc nL own ret) (hlow : ∀ q, A q → s0.heap.size ≤ q) (hnew : ∀ q, H.size ≤ q → A q) (hlm : (ly_lm L).1 = hr_k D 50 ∧ (ly_lm L).2.1 = hr_k D 51 ∧ (ly_lm L).2.2.1 = hr_k D 52) (h : hr_Dw D H a L d A) {q : Nat} {Q1 : ly_L} (hq : H.size ≤ q)
    (hF : hr_F (hr_LS L (dt_n d) (fun x => x = 1) H) H H1) (hP : hr_L D H1 Q1 (dt_k d + 1) (hr_u (ly_ha L) (dt_k d) q)) (hPa : hr_Ad (ly_h L) Q1 H.size) {i kk sv : Nat} (hO : hr_O D H1 q 4 [.int (hr_I (dt_k d : Int)), .int (hr_I (dt_ch kk)), .int (hr_I (sv : Int)), .int (hr_I 0), .int (hr_I 0), .ref (ly_pa L i)]) : hr_Dw D H1 a (ly_nh L d q Q1) (dt_nh d i kk sv) A := by
  obtain ⟨kD, kP, kH, kL, kLs⟩ := hr_LS.keep C hlow hlm h hF
  obtain ⟨hD, hAa, hAl, hSp, hAp, hAh, hA3⟩ := h
  have hk1 : dt_k (dt_nh d i kk sv) = dt_k d + 1 := rfl
  have hls : ∀ x, x ≠ 1 → ly_ls (ly_nh L d q Q1) x = ly_ls L x := by
    intro x hx
    rcases x with _ | _ | j
    · rfl
    · exact absurd rfl hx
    · rfl
  refine ⟨⟨?_, ⟨kLs 0 (by omega) (by omega), kP, fun j hj => kLs (j + 2) (by have : dt_n (dt_nh d i kk sv) = dt_n d := rfl; omega) (by omega)⟩, ⟨hP, ?_⟩, kL.1, kL.2.1, kL.2.2.1, kL.2.2.2⟩, hAa, ?_, ?_, hAp, ?_, hA3⟩
  · have e1 : fs_D (dt_nh d i kk sv) (ly_nh L d q Q1) = fs_D d L := by
      show [_, Value.ref Q1.1, _, _, _, _, _, _, _, _] = [_, _, _, _, _, _, _, _, _, _]
      rw [hPa.1]; rfl
    rw [e1]; exact kD
  · intro g hg
    rw [hk1] at hg
    by_cases hgk : g = dt_k d
    · subst hgk
      have e1 : fs_H (dt_nh d i kk sv) (ly_nh L d q Q1) (dt_k d) = [.int (hr_I (dt_k d : Int)), .int (hr_I (dt_ch kk)), .int (hr_I (sv : Int)), .int (hr_I 0), .int (hr_I 0), .ref (ly_pa L i)] := by
        show [_, .int (hr_I (dt_ch (hr_u (dt_ki d) (dt_k d) kk (dt_k d)))), .int (hr_I ((hr_u (dt_st d) (dt_k d) sv (dt_k d) : Nat) : Int)), .int (hr_I (hr_t (hr_u (dt_en d) (dt_k d) false (dt_k d)))), .int (hr_I (hr_t (hr_u (dt_pr d) (dt_k d) false (dt_k d)))), va_rf ((hr_u (dt_ho d) (dt_k d) (some i) (dt_k d)).map (ly_pa L))] = _
        rw [hr_us, hr_us, hr_us, hr_us, hr_us]; rfl
      rw [e1, show ly_ha (ly_nh L d q Q1) (dt_k d) = q from hr_us _ _ _]; exact hO
    · have hg2 : g < dt_k d := by omega
      have e1 : fs_H (dt_nh d i kk sv) (ly_nh L d q Q1) g = fs_H d L g := by
        show [_, .int (hr_I (dt_ch (hr_u (dt_ki d) (dt_k d) kk g))), .int (hr_I ((hr_u (dt_st d) (dt_k d) sv g : Nat) : Int)), .int (hr_I (hr_t (hr_u (dt_en d) (dt_k d) false g))), .int (hr_I (hr_t (hr_u (dt_pr d) (dt_k d) false g))), va_rf ((hr_u (dt_ho d) (dt_k d) (some i) g).map (ly_pa L))] = [_, _, _, _, _, _]
        rw [hr_un _ _ hgk, hr_un _ _ hgk, hr_un _ _ hgk, hr_un _ _ hgk, hr_un _ _ hgk]
      rw [e1, show ly_ha (ly_nh L d q Q1) g = ly_ha L g from hr_un _ _ hgk]; exact kH g hg2
  · intro x hx
    have hx2 : x < dt_n d + 2 := hx
    by_cases h1 : x = 1
    · subst h1
      refine ⟨by show A Q1.1; rw [hPa.1]; exact (hAl 1 hx2).1, fun hc => ?_⟩
      rcases hPa.2 with h9 | h9
      · show A Q1.2.1; rw [h9.1]; exact (hAl 1 hx2).2 h9.2
      · exact hnew _ h9
    · rw [hls x h1]; exact hAl x hx2
  · have hob : ∀ x, x < dt_n d + 2 → (ly_ls L x).2.1 < H.size := fun x hx => (hD.ls x hx).lt2
    intro x y hx hy hxy
    have hx2 : x < dt_n d + 2 := hx
    have hy2 : y < dt_n d + 2 := hy
    by_cases h1 : x = 1
    · subst h1
      rw [hls y (fun z => hxy z.symm)]
      show Q1.1 ≠ _ ∧ (0 < Q1.2.2.1 → _ → Q1.2.1 ≠ _)
      refine ⟨by rw [hPa.1]; exact (hSp 1 y hx2 hy2 hxy).1, fun c1 c2 => ?_⟩
      rcases hPa.2 with h9 | h9
      · rw [h9.1]; exact (hSp 1 y hx2 hy2 hxy).2 h9.2 c2
      · have := hob y hy2; omega
    · rw [hls x h1]
      by_cases h2 : y = 1
      · subst h2
        show _ ≠ Q1.1 ∧ (_ → 0 < Q1.2.2.1 → _ ≠ Q1.2.1)
        refine ⟨by rw [hPa.1]; exact (hSp x 1 hx2 hy2 hxy).1, fun c1 c2 => ?_⟩
        rcases hPa.2 with h9 | h9
        · rw [h9.1]; exact (hSp x 1 hx2 hy2 hxy).2 c1 h9.2
        · have := hob x hx2; omega
      · rw [hls y h2]; exact hSp x y hx2 hy2 hxy
  · intro g hg
    rw [hk1] at hg
    by_cases hgk : g = dt_k d
    · subst hgk; rw [show ly_ha (ly_nh L d q Q1) (dt_k d) = q from hr_us _ _ _]; exact hnew _ hq
    · rw [show ly_ha (ly_nh L d q Q1) g = ly_ha L g from hr_un _ _ hgk]; exact hAh g (by omega)
end NH
