/-! PLAIN LAW: passing on, a habit more -/
theorem dt_end_V {d : dt_T} (hV : dt_V d) {h : Nat} (hh : h < dt_k d) (c1 : dt_ho d h ≠ none) {la me br : Nat} (hc : la + me + br = dt_la d + dt_me d + dt_br d + 1) : dt_V (dt_wT (dt_end d h) (dt_yr d) la me br) := by
  refine dt_V_u hV hh (o := none) (sv := 0) (en := false) (pr := false) rfl rfl rfl rfl rfl rfl rfl (fun p hp => nomatch hp) (fun _ => ⟨rfl, rfl, rfl⟩) (fun z => absurd rfl z) (fun g hg hgx a _ _ => a rfl) ?_
  show la + me + br + 0 = _
  rw [if_pos (Option.isSome_iff_ne_none.mpr c1)]; omega
theorem dt_pas_V {d : dt_T} (hV : dt_V d) {h : Nat} (hh : h < dt_k d) (c1 : dt_ho d h ≠ none) {x : Option Nat} (hx : ∀ j, x = some j → j < dt_n d) (hne : ∀ j, x = some j → dt_ho d h ≠ some j) : dt_V (dt_pas d h x).1 := by
  cases x with
  | none => exact dt_end_V hV hh c1 (by omega)
  | some j =>
    have s := hV.2.2.2.2.2.1 h hh c1
    cases hof : dt_hof d j (dt_ch (dt_ki d h)) with
    | none =>
      have e9 : (dt_pas d h (some j)).1 = dt_wH d (hr_u (dt_ho d) h (some j)) (dt_st d) (dt_en d) (dt_pr d) := by unfold dt_pas; simp only [hof]
      rw [e9]
      refine dt_V_u hV hh (o := some j) (sv := dt_st d h) (en := dt_en d h) (pr := dt_pr d h) rfl rfl rfl rfl (hr_u_self _ _).symm (hr_u_self _ _).symm (hr_u_self _ _).symm (fun p hp => by cases hp; exact hx j rfl) (fun z => nomatch z) (fun _ => s) (fun g hg hgx _ b c => dt_hof_none hof g hg b.symm c.symm) ?_
      rw [if_pos (Option.isSome_iff_ne_none.mpr c1)]; rfl
    | some g =>
      have e9 : (dt_pas d h (some j)).1 = dt_wT (dt_end (dt_wH d (dt_ho d) (hr_u (dt_st d) g (min 9 (dt_st d g + dt_st d h))) (dt_en d) (dt_pr d)) h) (dt_yr d) (dt_la d) (dt_me d + 1) (dt_br d) := by unfold dt_pas; simp only [hof]
      rw [e9]
      have hg := (dt_ff_lt hof).1
      have hgj : dt_ho d g = some j := by
        have h9 := (dt_ff_lt hof).2
        simp only [Bool.and_eq_true, decide_eq_true_eq] at h9
        exact h9.1
      have hgn : dt_ho d g ≠ none := by rw [hgj]; exact fun z => nomatch z
      have sg := hV.2.2.2.2.2.1 g hg hgn
      have hV1 : dt_V (dt_wH d (dt_ho d) (hr_u (dt_st d) g (min 9 (dt_st d g + dt_st d h))) (dt_en d) (dt_pr d)) :=
        dt_V_u hV hg (o := dt_ho d g) (sv := min 9 (dt_st d g + dt_st d h)) (en := dt_en d g) (pr := dt_pr d g) rfl rfl (hr_u_self _ _).symm rfl rfl (hr_u_self _ _).symm (hr_u_self _ _).symm (fun p hp => (hV.2.2.1 g hg p hp).1) (fun z => absurd z hgn) (fun _ => by omega) (fun f hf hfx _ b c => hfx (hV.2.2.2.2.2.2.1 g f hg hf hgn b c).symm) rfl
      exact dt_end_V hV1 hh c1 (by show dt_la d + (dt_me d + 1) + dt_br d = dt_la d + dt_me d + dt_br d + 1; omega)
theorem dt_nh_V {d : dt_T} (hV : dt_V d) {i kk sv : Nat} (hi : i < dt_n d) (hk : dt_k d < 20) (hkk : kk < 3) (hs : 1 ≤ sv ∧ sv ≤ 9) (hof : dt_hof d i (dt_ch kk) = none) : dt_V (dt_nh d i kk sv) := by
  obtain ⟨v1, v2, v3, v4, v5, v6, v7, v8⟩ := hV
  have hK : dt_k (dt_nh d i kk sv) = dt_k d + 1 := rfl
  have ho : dt_ho (dt_nh d i kk sv) = hr_u (dt_ho d) (dt_k d) (some i) := rfl
  have hki : dt_ki (dt_nh d i kk sv) = hr_u (dt_ki d) (dt_k d) kk := rfl
  have hst : dt_st (dt_nh d i kk sv) = hr_u (dt_st d) (dt_k d) sv := rfl
  have hen : dt_en (dt_nh d i kk sv) = hr_u (dt_en d) (dt_k d) false := rfl
  have hpr : dt_pr (dt_nh d i kk sv) = hr_u (dt_pr d) (dt_k d) false := rfl
  refine ⟨v1, by rw [hK]; omega, ?_, ?_, ?_, ?_, ?_, ?_⟩
  · intro h hh p
    rw [hK] at hh
    rw [ho]
    by_cases e : h = dt_k d
    · rw [e, hr_us]; exact fun z => by cases z; exact ⟨hi, trivial⟩
    · rw [hr_un _ _ e]; exact v3 h (by omega) p
  · intro h hh
    rw [hK] at hh
    rw [hki]
    by_cases e : h = dt_k d
    · rw [e, hr_us]; exact hkk
    · rw [hr_un _ _ e]; exact v4 h (by omega)
  · intro h hh
    rw [hK] at hh
    rw [ho, hst, hen, hpr]
    by_cases e : h = dt_k d
    · rw [e, hr_us]; exact fun z => nomatch z
    · rw [hr_un _ _ e, hr_un _ _ e, hr_un _ _ e, hr_un _ _ e]; exact v5 h (by omega)
  · intro h hh
    rw [hK] at hh
    rw [ho, hst]
    by_cases e : h = dt_k d
    · rw [e, hr_us, hr_us]; exact fun _ => hs
    · rw [hr_un _ _ e, hr_un _ _ e]; exact v6 h (by omega)
  · intro h g hh hg
    rw [hK] at hh hg
    rw [ho, hki]
    by_cases e1 : h = dt_k d
    · subst e1
      by_cases e2 : g = dt_k d
      · exact fun _ _ _ => e2.symm
      · rw [hr_us, hr_us, hr_un _ _ e2, hr_un _ _ e2]
        exact fun _ b c => (dt_hof_none hof g (by omega) b.symm c.symm).elim
    · by_cases e2 : g = dt_k d
      · subst e2
        rw [hr_us, hr_us, hr_un _ _ e1, hr_un _ _ e1]
        exact fun _ b c => (dt_hof_none hof h (by omega) b c).elim
      · rw [hr_un _ _ e1, hr_un _ _ e2, hr_un _ _ e1, hr_un _ _ e2]; exact v7 h g (by omega) (by omega)
  · rw [hK, ho]
    simp only [dt_cnt]
    have e1 : dt_cnt (fun h => (hr_u (dt_ho d) (dt_k d) (some i) h).isSome) (dt_k d) = dt_cnt (fun h => (dt_ho d h).isSome) (dt_k d) := dt_cnt_c (dt_k d) (fun j hj => congrArg Option.isSome (hr_un (dt_ho d) (some i) (show j ≠ dt_k d by omega)))
    have e2 : (hr_u (dt_ho d) (dt_k d) (some i) (dt_k d)).isSome = true := by rw [hr_us]; rfl
    rw [e1, if_pos e2]
    show dt_la d + dt_me d + dt_br d + (dt_cnt (fun h => (dt_ho d h).isSome) (dt_k d) + 1) = dt_k d + 1
    omega
