/-! PLAIN LAW: what every change keeps -/
theorem hr_u_self {α : Type} (f : Nat → α) (x : Nat) : hr_u f x (f x) = f := by
  funext j
  by_cases h : j = x
  · rw [h, hr_us]
  · rw [hr_un _ _ h]
theorem dt_cnt_c {f g : Nat → Bool} : ∀ k, (∀ j, j < k → f j = g j) → dt_cnt f k = dt_cnt g k
  | 0, _ => rfl
  | k + 1, h => by simp only [dt_cnt]; rw [dt_cnt_c k (fun j hj => h j (by omega)), h k (by omega)]
theorem dt_cnt_u (f : Nat → Bool) (b : Bool) {x : Nat} : ∀ k, x < k → dt_cnt (hr_u f x b) k + (if f x = true then 1 else 0) = dt_cnt f k + (if b = true then 1 else 0) := by
  intro k
  induction k with
  | zero => intro h; omega
  | succ k ih =>
    intro hx
    simp only [dt_cnt]
    by_cases h : x = k
    · subst h
      rw [hr_us, dt_cnt_c (f := hr_u f x b) (g := f) x (fun j hj => hr_un f b (show j ≠ x by omega))]
      omega
    · have := ih (by omega)
      rw [hr_un f b (show k ≠ x by omega)]
      omega
theorem dt_V_u {d d1 : dt_T} (hV : dt_V d) {x : Nat} (hx : x < dt_k d) {o : Option Nat} {sv : Nat} {en pr : Bool} (h1 : d1.1 = d.1) (hk : dt_k d1 = dt_k d) (hho : dt_ho d1 = hr_u (dt_ho d) x o) (hki : dt_ki d1 = dt_ki d) (hst : dt_st d1 = hr_u (dt_st d) x sv) (hen : dt_en d1 = hr_u (dt_en d) x en) (hpr : dt_pr d1 = hr_u (dt_pr d) x pr)
    (hp : ∀ p, o = some p → p < dt_n d) (hn : o = none → sv = 0 ∧ en = false ∧ pr = false) (hs : o ≠ none → 1 ≤ sv ∧ sv ≤ 9) (hu : ∀ g, g < dt_k d → g ≠ x → o ≠ none → o = dt_ho d g → dt_ki d x = dt_ki d g → False) (hc : dt_la d1 + dt_me d1 + dt_br d1 + (if o.isSome = true then 1 else 0) = dt_la d + dt_me d + dt_br d + (if (dt_ho d x).isSome = true then 1 else 0)) : dt_V d1 := by
  obtain ⟨v1, v2, v3, v4, v5, v6, v7, v8⟩ := hV
  have hn1 : dt_n d1 = dt_n d := by show d1.1.1 = d.1.1; rw [h1]
  have hpa : dt_pa d1 = dt_pa d := by show d1.1.2.1 = d.1.2.1; rw [h1]
  refine ⟨?_, by rw [hk]; exact v2, ?_, by rw [hk, hki]; exact v4, ?_, ?_, ?_, ?_⟩
  · unfold dt_VP; rw [hn1, hpa]; exact v1
  · intro g hg p
    rw [hk] at hg
    rw [hho, hn1]
    by_cases h : g = x
    · rw [h, hr_us]; exact fun e => ⟨hp p e, trivial⟩
    · rw [hr_un _ _ h]; exact v3 g hg p
  · intro g hg
    rw [hk] at hg
    rw [hho, hst, hen, hpr]
    by_cases h : g = x
    · rw [h, hr_us, hr_us, hr_us, hr_us]; exact hn
    · rw [hr_un _ _ h, hr_un _ _ h, hr_un _ _ h, hr_un _ _ h]; exact v5 g hg
  · intro g hg
    rw [hk] at hg
    rw [hho, hst]
    by_cases h : g = x
    · rw [h, hr_us, hr_us]; exact hs
    · rw [hr_un _ _ h, hr_un _ _ h]; exact v6 g hg
  · intro h g hh hg
    rw [hk] at hh hg
    rw [hho, hki]
    by_cases e1 : h = x
    · subst e1
      by_cases e2 : g = h
      · exact fun _ _ _ => e2.symm
      · rw [hr_us, hr_un _ _ e2]
        exact fun a b c => (hu g hg e2 a b c).elim
    · by_cases e2 : g = x
      · subst e2
        rw [hr_us, hr_un _ _ e1]
        exact fun a b c => (hu h hh e1 (by rw [← b]; exact a) b.symm c.symm).elim
      · rw [hr_un _ _ e1, hr_un _ _ e2]; exact v7 h g hh hg
  · rw [hk, hho, show (fun h => (hr_u (dt_ho d) x o h).isSome) = hr_u (fun h => (dt_ho d h).isSome) x o.isSome from by
      funext j
      by_cases h : j = x
      · rw [h, hr_us, hr_us]
      · rw [hr_un _ _ h, hr_un _ _ h]]
    have := dt_cnt_u (fun h => (dt_ho d h).isSome) o.isSome (dt_k d) hx
    omega
theorem dt_prac_V {d d1 : dt_T} {r : Int} (hV : dt_V d) {h : Nat} (hh : h < dt_k d) (e : dt_prac d h = .ok (d1, r)) : dt_V d1 := by
  unfold dt_prac at e
  by_cases c1 : dt_ho d h = none
  · rw [if_pos c1] at e; cases e
  · rw [if_neg c1] at e
    by_cases c2 : dt_st d h = 9
    · rw [if_pos c2] at e; cases e
    · rw [if_neg c2] at e
      cases e
      have s := hV.2.2.2.2.2.1 h hh c1
      exact dt_V_u hV hh (o := dt_ho d h) (sv := dt_st d h + 1) (en := dt_en d h) (pr := true) rfl rfl (hr_u_self _ _).symm rfl rfl (hr_u_self _ _).symm rfl (fun p hp => (hV.2.2.1 h hh p hp).1) (fun z => absurd z c1) (fun _ => by omega) (fun g hg hgx _ b c => hgx (hV.2.2.2.2.2.2.1 h g hh hg c1 b c).symm) rfl
theorem dt_brk_V {d d1 : dt_T} {r : Int} (hV : dt_V d) {h : Nat} (hh : h < dt_k d) (e : dt_brk d h = .ok (d1, r)) : dt_V d1 := by
  unfold dt_brk at e
  by_cases c1 : dt_ho d h = none
  · rw [if_pos c1] at e; cases e
  · rw [if_neg c1] at e
    by_cases c2 : dt_en d h = false
    · rw [if_pos c2] at e; cases e
    · rw [if_neg c2] at e
      cases e
      have s := hV.2.2.2.2.2.1 h hh c1
      exact dt_V_u hV hh (o := dt_ho d h) (sv := (dt_st d h + 1) / 2) (en := false) (pr := dt_pr d h) rfl rfl (hr_u_self _ _).symm rfl rfl rfl (hr_u_self _ _).symm (fun p hp => (hV.2.2.1 h hh p hp).1) (fun z => absurd z c1) (fun _ => by omega) (fun g hg hgx _ b c => hgx (hV.2.2.2.2.2.2.1 h g hh hg c1 b c).symm) rfl
theorem dt_weak_V {d : dt_T} (hV : dt_V d) {h : Nat} (hh : h < dt_k d) (c1 : dt_ho d h ≠ none) : dt_V (dt_weak d h).1 := by
  have s := hV.2.2.2.2.2.1 h hh c1
  unfold dt_weak
  by_cases c2 : dt_st d h = 1
  · rw [if_pos c2]
    refine dt_V_u hV hh (o := none) (sv := 0) (en := false) (pr := false) rfl rfl rfl rfl rfl rfl rfl (fun p hp => nomatch hp) (fun _ => ⟨rfl, rfl, rfl⟩) (fun z => absurd rfl z) (fun g hg hgx a _ _ => a rfl) ?_
    show dt_la d + 1 + dt_me d + dt_br d + 0 = _
    rw [if_pos (Option.isSome_iff_ne_none.mpr c1)]; omega
  · rw [if_neg c2]
    exact dt_V_u hV hh (o := dt_ho d h) (sv := dt_st d h - 1) (en := dt_en d h) (pr := dt_pr d h) rfl rfl (hr_u_self _ _).symm rfl rfl (hr_u_self _ _).symm (hr_u_self _ _).symm (fun p hp => (hV.2.2.1 h hh p hp).1) (fun z => absurd z c1) (fun _ => by omega) (fun g hg hgx _ b c => hgx (hV.2.2.2.2.2.2.1 h g hh hg c1 b c).symm) rfl
theorem dt_ent_V {d d1 : dt_T} {r : Int} (hV : dt_V d) {h : Nat} (hh : h < dt_k d) (e : dt_ent d h = .ok (d1, r)) : dt_V d1 := by
  unfold dt_ent at e
  cases c1 : dt_ho d h with
  | none => rw [c1] at e; cases e
  | some i =>
    simp only [c1] at e
    have hne : dt_ho d h ≠ none := by rw [c1]; exact fun z => nomatch z
    by_cases c2 : dt_en d h = true
    · rw [if_pos c2] at e; cases e
    · rw [if_neg c2] at e
      by_cases c3 : dt_fl d none i = none
      · rw [if_pos c3] at e; cases e
      · rw [if_neg c3] at e
        cases e
        have s := hV.2.2.2.2.2.1 h hh hne
        exact dt_V_u hV hh (o := dt_ho d h) (sv := dt_st d h) (en := true) (pr := dt_pr d h) rfl rfl (hr_u_self _ _).symm rfl (hr_u_self _ _).symm rfl (hr_u_self _ _).symm (fun p hp => (hV.2.2.1 h hh p hp).1) (fun z => absurd z hne) (fun _ => s) (fun g hg hgx _ b c => hgx (hV.2.2.2.2.2.2.1 h g hh hg hne b c).symm) rfl
/-- nobody's habit of a kind -/
theorem dt_hof_none {d : dt_T} {i k : Nat} (h : dt_hof d i (dt_ch k) = none) : ∀ g, g < dt_k d → dt_ho d g = some i → dt_ki d g ≠ k := by
  intro g hg h1 h2
  unfold dt_hof dt_ff at h
  rw [List.find?_eq_none] at h
  exact h g (List.mem_range.mpr hg) (by rw [h1, h2]; simp)
theorem dt_giv_V {d d1 : dt_T} {r : Int} (hV : dt_V d) {h j : Nat} (hh : h < dt_k d) (hj : j < dt_n d) (e : dt_giv d h j = .ok (d1, r)) : dt_V d1 := by
  unfold dt_giv at e
  cases c1 : dt_ho d h with
  | none => rw [c1] at e; cases e
  | some i =>
    simp only [c1] at e
    have hne : dt_ho d h ≠ none := by rw [c1]; exact fun z => nomatch z
    have s := hV.2.2.2.2.2.1 h hh hne
    split at e
    · cases e
    · split at e
      · cases e
      · split at e
        · cases e
        · split at e
          · cases e
          · split at e
            · cases e
            · rename_i hnk
              cases e
              refine dt_V_u hV hh (o := some j) (sv := dt_st d h) (en := dt_en d h) (pr := dt_pr d h) rfl rfl rfl rfl (hr_u_self _ _).symm (hr_u_self _ _).symm (hr_u_self _ _).symm (fun p hp => by cases hp; exact hj) (fun z => nomatch z) (fun _ => s) (fun g hg hgx _ b c => dt_hof_none hnk g hg b.symm c.symm) ?_
              rw [if_pos (Option.isSome_iff_ne_none.mpr hne)]; rfl
/-- a person more -/
theorem dt_jn_V {d : dt_T} (hV : dt_V d) {par : Option Nat} (hpar : ∀ i, par = some i → i < dt_n d) (hn : dt_n d < 16) : dt_V (dt_jn d par) := by
  obtain ⟨v1, v2, v3, v4, v5, v6, v7, v8⟩ := hV
  refine ⟨⟨?_, ?_⟩, v2, fun h hh p hp => ⟨by have := (v3 h hh p hp).1; show p < dt_n d + 1; omega, trivial⟩, v4, v5, v6, v7, v8⟩
  · show dt_n d + 1 ≤ 16; omega
  · intro i hi p hp
    have hi2 : i < dt_n d + 1 := hi
    by_cases h : i = dt_n d
    · subst h
      have h9 : dt_pa (dt_jn d par) (dt_n d) = par := hr_us _ _ _
      rw [h9] at hp
      exact hpar p hp
    · have h9 : dt_pa (dt_jn d par) i = dt_pa d i := hr_un _ _ h
      rw [h9] at hp
      exact v1.2 i (by omega) p hp
