/-! FAMILIES: ancestors, pure -/
def dt_anc (d : dt_T) : Nat → Nat → List Nat
  | 0, _ => []
  | f + 1, i => match dt_pa d i with
    | none => []
    | some p => p :: dt_anc d f p
/-- the proper ancestors, nearest first -/
def dt_up (d : dt_T) (i : Nat) : List Nat := dt_anc d i i
def dt_upo (d : dt_T) (o : Option Nat) : List Nat := match o with
  | none => []
  | some p => p :: dt_up d p
theorem dt_anc_eq {d : dt_T} (h : dt_VP d) : ∀ (f i : Nat), i < dt_n d → i ≤ f → dt_anc d f i = dt_upo d (dt_pa d i)
  | 0, i, hi, hf => by
    have h0 : i = 0 := by omega
    subst h0
    cases hp : dt_pa d 0 with
    | none => rfl
    | some p => exact absurd (h.2 0 hi p hp) (by omega)
  | f + 1, i, hi, hf => by
    cases hp : dt_pa d i with
    | none => simp [dt_anc, hp, dt_upo]
    | some p =>
      have hlt := h.2 i hi p hp
      simp only [dt_anc, hp, dt_upo]
      congr 1
      rw [dt_anc_eq h f p (by omega) (by omega), dt_up, dt_anc_eq h p p (by omega) (by omega)]
theorem dt_up_eq {d : dt_T} (h : dt_VP d) {i : Nat} (hi : i < dt_n d) : dt_up d i = dt_upo d (dt_pa d i) := dt_anc_eq h i i hi (Nat.le_refl _)
/-- the generation -/
def dt_gen (d : dt_T) (i : Nat) : Nat := (dt_up d i).length
theorem dt_up_lt {d : dt_T} (h : dt_VP d) : ∀ (i : Nat), i < dt_n d → ∀ a ∈ dt_up d i, a < i := by
  intro i
  induction i using Nat.strongRecOn with
  | _ i ih =>
    intro hi a ha
    rw [dt_up_eq h hi] at ha
    cases hp : dt_pa d i with
    | none => rw [hp] at ha; cases ha
    | some p =>
      have hlt := h.2 i hi p hp
      rw [hp] at ha
      rcases List.mem_cons.mp ha with e | e
      · omega
      · have := ih p hlt (by omega) a e; omega
theorem dt_gen_le {d : dt_T} (h : dt_VP d) : ∀ (i : Nat), i < dt_n d → dt_gen d i ≤ i := by
  intro i
  induction i using Nat.strongRecOn with
  | _ i ih =>
    intro hi
    unfold dt_gen
    rw [dt_up_eq h hi]
    cases hp : dt_pa d i with
    | none => simp [dt_upo]
    | some p =>
      have hlt := h.2 i hi p hp
      have := ih p hlt (by omega)
      simp only [dt_upo, List.length_cons]
      unfold dt_gen at this
      omega
theorem dt_n16 {d : dt_T} (h : dt_VP d) : dt_n d ≤ 16 := h.1
theorem dt_pa_lt {d : dt_T} (h : dt_VP d) {i p : Nat} (hi : i < dt_n d) (hp : dt_pa d i = some p) : p < i ∧ p < dt_n d := ⟨h.2 i hi p hp, by have := h.2 i hi p hp; omega⟩
/-- a founder is the last of the ancestors -/
def dt_fo (d : dt_T) (i : Nat) : Nat := (dt_up d i).getLastD i
theorem dt_mem_kids {d : dt_T} {i c : Nat} : c ∈ dt_kids d i ↔ c < dt_n d ∧ dt_pa d c = some i := by
  simp [dt_kids, List.mem_filter, List.mem_range]
theorem dt_kid_gt {d : dt_T} (h : dt_VP d) {i c : Nat} (hc : c ∈ dt_kids d i) : i < c ∧ c < dt_n d := by
  obtain ⟨h1, h2⟩ := dt_mem_kids.mp hc
  exact ⟨h.2 c h1 i h2, h1⟩
theorem dt_kids_len {d : dt_T} (h : dt_VP d) (i : Nat) : (dt_kids d i).length ≤ 16 := by
  have h1 := List.length_filter_le (fun j => decide (dt_pa d j = some i)) (List.range (dt_n d))
  rw [List.length_range] at h1
  exact Nat.le_trans h1 h.1
theorem dt_kid_at {d : dt_T} {i j : Nat} (hj : j < (dt_kids d i).length) : (dt_kids d i).getD j 0 ∈ dt_kids d i := by
  rw [List.getD_eq_getElem?_getD, List.getElem?_eq_getElem hj]
  exact List.getElem_mem hj
/-- the first living descendant but for one, in the order of succession -/
def dt_flf (d : dt_T) (ex : Option Nat) : Nat → Nat → Option Nat
  | 0, _ => none
  | f + 1, i => (dt_kids d i).findSome? (fun c => if dt_al d c = true ∧ some c ≠ ex then some c else dt_flf d ex f c)
theorem dt_flf_eq {d : dt_T} (h : dt_VP d) (ex : Option Nat) : ∀ (f g i : Nat), dt_n d - i ≤ f → dt_n d - i ≤ g → dt_flf d ex f i = dt_flf d ex g i := by
  intro f
  induction f with
  | zero =>
    intro g i hf hg
    have hk : dt_kids d i = [] := by
      apply List.eq_nil_iff_forall_not_mem.mpr
      intro c hc
      have := dt_kid_gt h hc
      omega
    cases g with
    | zero => rfl
    | succ g => simp [dt_flf, hk]
  | succ f ih =>
    intro g i hf hg
    cases g with
    | zero =>
      have hk : dt_kids d i = [] := by
        apply List.eq_nil_iff_forall_not_mem.mpr
        intro c hc
        have := dt_kid_gt h hc
        omega
      simp [dt_flf, hk]
    | succ g =>
      simp only [dt_flf]
      have hall : ∀ c ∈ dt_kids d i, dt_flf d ex f c = dt_flf d ex g c := fun c hc => ih g c (by have := dt_kid_gt h hc; omega) (by have := dt_kid_gt h hc; omega)
      revert hall
      generalize dt_kids d i = l
      intro hall
      induction l with
      | nil => rfl
      | cons c l ihl =>
        simp only [List.findSome?_cons]
        rw [hall c List.mem_cons_self, ihl (fun x hx => hall x (List.mem_cons_of_mem _ hx))]
def dt_fl (d : dt_T) (ex : Option Nat) (i : Nat) : Option Nat := dt_flf d ex (dt_n d) i
/-- the search among a person's children, from a place on -/
def dt_flk (d : dt_T) (ex : Option Nat) (l : List Nat) : Option Nat := l.findSome? (fun c => if dt_al d c = true ∧ some c ≠ ex then some c else dt_fl d ex c)
theorem dt_fl_eq {d : dt_T} (h : dt_VP d) (ex : Option Nat) (i : Nat) : dt_fl d ex i = dt_flk d ex (dt_kids d i) := by
  unfold dt_fl dt_flk
  rw [dt_flf_eq h ex (dt_n d) (dt_n d + 1) i (by omega) (by omega)]
  rfl
theorem dt_fl_lt {d : dt_T} (h : dt_VP d) (ex : Option Nat) : ∀ (f i x : Nat), dt_flf d ex f i = some x → x < dt_n d ∧ i < x ∧ dt_al d x = true := by
  intro f
  induction f with
  | zero => intro i x hx; simp [dt_flf] at hx
  | succ f ih =>
    intro i x hx
    simp only [dt_flf] at hx
    obtain ⟨c, hc, hcx⟩ := List.exists_of_findSome?_eq_some hx
    have hk := dt_kid_gt h hc
    split at hcx
    · rename_i hq
      cases hcx
      exact ⟨hk.2, hk.1, hq.1⟩
    · have := ih c x hcx
      exact ⟨this.1, by omega, this.2.2⟩
theorem dt_gen_pos {d : dt_T} (h : dt_VP d) {i p : Nat} (hi : i < dt_n d) (hp : dt_pa d i = some p) : dt_gen d i = dt_gen d p + 1 := by
  unfold dt_gen
  rw [dt_up_eq h hi, hp]
  rfl
theorem dt_getLastD_cons (a b : Nat) (l : List Nat) : (a :: l).getLastD b = l.getLastD a := by cases l <;> rfl
theorem dt_fo_none {d : dt_T} (h : dt_VP d) {i : Nat} (hi : i < dt_n d) (hp : dt_pa d i = none) : dt_fo d i = i := by
  unfold dt_fo
  rw [dt_up_eq h hi, hp]
  rfl
theorem dt_fo_eq {d : dt_T} (h : dt_VP d) {i p : Nat} (hi : i < dt_n d) (hp : dt_pa d i = some p) : dt_fo d i = dt_fo d p := by
  unfold dt_fo
  rw [dt_up_eq h hi, hp]
  exact dt_getLastD_cons p i _
theorem dt_fo_lt {d : dt_T} (h : dt_VP d) : ∀ (i : Nat), i < dt_n d → dt_fo d i < dt_n d := by
  intro i
  induction i using Nat.strongRecOn with
  | _ i ih =>
    intro hi
    cases hp : dt_pa d i with
    | none => rw [dt_fo_none h hi hp]; exact hi
    | some p =>
      rw [dt_fo_eq h hi hp]
      have := dt_pa_lt h hi hp
      exact ih p this.1 this.2
/-- the person's ancestor-or-self that is a child of another ancestor -/
def dt_bb (d : dt_T) (a i : Nat) : Nat := ((i :: dt_up d i).find? (fun b => decide (dt_pa d b = some a))).getD i
theorem dt_bb_hit {d : dt_T} {a i : Nat} (hp : dt_pa d i = some a) : dt_bb d a i = i := by
  simp [dt_bb, hp]
theorem dt_bb_step {d : dt_T} (h : dt_VP d) {a i p : Nat} (hi : i < dt_n d) (hp : dt_pa d i = some p) (hne : p ≠ a) (ha : a ∈ dt_up d p) : dt_bb d a i = dt_bb d a p := by
  unfold dt_bb
  rw [List.find?_cons_of_neg (by simp [hp, hne]), dt_up_eq h hi, hp]
  show ((p :: dt_up d p).find? _).getD i = ((p :: dt_up d p).find? _).getD p
  have hs : ((p :: dt_up d p).find? (fun b => decide (dt_pa d b = some a))).isSome := by
    have key : ∀ j, j < dt_n d → a ∈ dt_up d j → ∃ b ∈ (j :: dt_up d j), dt_pa d b = some a := by
      intro j
      induction j using Nat.strongRecOn with
      | _ j ih =>
        intro hj hm
        rw [dt_up_eq h hj] at hm ⊢
        cases hq : dt_pa d j with
        | none => rw [hq] at hm; cases hm
        | some q =>
          rw [hq] at hm
          rcases List.mem_cons.mp hm with e | e
          · exact ⟨j, List.mem_cons_self, by rw [hq, e]⟩
          · have h2 := dt_pa_lt h hj hq
            obtain ⟨b, hb, hb2⟩ := ih q h2.1 h2.2 e
            exact ⟨b, List.mem_cons_of_mem _ hb, hb2⟩
    obtain ⟨b, hb, hb2⟩ := key p (dt_pa_lt h hi hp).2 ha
    rw [List.find?_isSome]
    exact ⟨b, hb, by simpa using hb2⟩
  obtain ⟨x, hx⟩ := Option.isSome_iff_exists.mp hs
  rw [hx]
  rfl
theorem dt_flk_nil (d : dt_T) (ex : Option Nat) {i c : Nat} (hc : (dt_kids d i).length ≤ c) : dt_flk d ex ((dt_kids d i).drop c) = none := by
  rw [List.drop_eq_nil_of_le hc]; rfl
theorem dt_flk_step (d : dt_T) (ex : Option Nat) {i c : Nat} (hc : c < (dt_kids d i).length) : dt_flk d ex ((dt_kids d i).drop c) = (if dt_al d ((dt_kids d i).getD c 0) = true ∧ some ((dt_kids d i).getD c 0) ≠ ex then some ((dt_kids d i).getD c 0) else dt_fl d ex ((dt_kids d i).getD c 0)).or (dt_flk d ex ((dt_kids d i).drop (c + 1))) := by
  rw [List.drop_eq_getElem_cons hc, show (dt_kids d i).getD c 0 = (dt_kids d i)[c] by rw [List.getD_eq_getElem?_getD, List.getElem?_eq_getElem hc]; rfl]
  unfold dt_flk
  rw [List.findSome?_cons]
  cases (if dt_al d ((dt_kids d i)[c]) = true ∧ some ((dt_kids d i)[c]) ≠ ex then some ((dt_kids d i)[c]) else dt_fl d ex ((dt_kids d i)[c])) <;> rfl
theorem dt_st9 {d : dt_T} (h : dt_V d) (g : Nat) (hg : g < dt_k d) : dt_st d g ≤ 9 := by
  by_cases e : dt_ho d g = none
  · rw [(h.2.2.2.2.1 g hg e).1]; omega
  · exact (h.2.2.2.2.2.1 g hg e).2
/-- the order of habits by strength -/
def dt_hb (d : dt_T) (h g : Nat) : Bool := decide (dt_st d g < dt_st d h ∨ dt_st d h = dt_st d g ∧ h < g)
theorem hr_L.kept {D : va_G} {H H1 : Heap} {L : ly_L} {n : Nat} {f : Nat → Nat} (h : hr_L D H L n f) (e1 : H1[L.1]? = H[L.1]?) (e2 : H1[L.2.1]? = H[L.2.1]?) : hr_L D H1 L n f := by
  obtain ⟨h1, ⟨g, h2, h3⟩, h4⟩ := h
  exact ⟨h1.kept e1, ⟨g, h2.kept e2, h3⟩, h4⟩
theorem hr_L.f {A : Nat → Prop} {D : va_G} {H H1 : Heap} {L : ly_L} {n : Nat} {f : Nat → Nat} (h : hr_L D H L n f) (hx : hr_F A H H1) (n1 : ¬ A L.1) (n2 : ¬ A L.2.1) : hr_L D H1 L n f := by
  obtain ⟨h1, ⟨g, h2, h3⟩, h4⟩ := h
  exact ⟨h1.f hx n1, ⟨g, h2.f hx n2, h3⟩, h4⟩
/-- the nearest common ancestor, each person its own -/
def dt_ca (d : dt_T) (i j : Nat) : Option Nat := (i :: dt_up d i).find? (fun x => decide (x = j ∨ x ∈ dt_up d j))
def dt_di (d : dt_T) (i j : Nat) : Int := match dt_ca d i j with
  | none => -1
  | some c => (dt_gen d i : Int) + dt_gen d j - 2 * dt_gen d c
def dt_he (d : dt_T) (i : Nat) : Option Nat := (dt_fl d none i).or ((dt_up d i).findSome? (fun a => if dt_al d a = true then some a else dt_fl d (some i) a))
def dt_sb (d : dt_T) (i j : Nat) : Bool := if dt_ca d i j = some i ∨ dt_ca d i j = some j then decide (i ≠ j ∧ dt_ca d i j = some i) else match dt_ca d i j with
  | none => false
  | some c => decide (dt_bb d c i < dt_bb d c j)
def dt_po (d : dt_T) (i : Nat) : Nat := dt_cnt (fun k => decide (dt_fo d k = dt_fo d i) && dt_sb d k i) (dt_n d)
def dt_as (d : dt_T) (i j : Nat) : Int := (dt_gen d i : Int) - match dt_ca d i j with
  | none => 0
  | some c => (dt_gen d c : Int)
theorem dt_cnt_le (f : Nat → Bool) : ∀ k, dt_cnt f k ≤ k
  | 0 => Nat.le_refl _
  | k + 1 => by have := dt_cnt_le f k; simp only [dt_cnt]; split <;> omega
theorem dt_cnt_t (f : Nat → Bool) (k : Nat) : (dt_cnt f k : Int) + hr_t (f k) = ((dt_cnt f (k + 1) : Nat) : Int) := by
  simp only [dt_cnt, hr_t]; cases f k <;> simp
theorem dt_upo_mem_lt {d : dt_T} (h : dt_VP d) {i : Nat} (hi : i < dt_n d) {x : Nat} (hx : x ∈ i :: dt_up d i) : x < dt_n d := by
  rcases List.mem_cons.mp hx with e | e
  · omega
  · have := dt_up_lt h i hi x e; omega
theorem dt_ca_lt {d : dt_T} (h : dt_VP d) {i j c : Nat} (hi : i < dt_n d) (hc : dt_ca d i j = some c) : c < dt_n d := dt_upo_mem_lt h hi (List.mem_of_find?_eq_some hc)
theorem dt_ca_i {d : dt_T} {i j c : Nat} (hc : dt_ca d i j = some c) (hne : c ≠ i) : c ∈ dt_up d i := (List.mem_cons.mp (List.mem_of_find?_eq_some hc)).resolve_left hne
theorem dt_ca_j {d : dt_T} {i j c : Nat} (hc : dt_ca d i j = some c) (hne : c ≠ j) : c ∈ dt_up d j := by
  have := List.find?_some hc
  exact (of_decide_eq_true this).resolve_left hne
theorem dt_gen16 {d : dt_T} (h : dt_VP d) {i : Nat} (hi : i < dt_n d) : dt_gen d i ≤ 15 := by have := dt_gen_le h i hi; have := h.1; omega
theorem dt_fl_sub {d : dt_T} (h : dt_VP d) (ex : Option Nat) {i x : Nat} (hx : dt_fl d ex i = some x) : x < dt_n d := (dt_fl_lt h ex _ i x hx).1
theorem dt_getLastD_mem : ∀ (l : List Nat) (a : Nat), l.getLastD a ∈ a :: l
  | [], a => by simp
  | b :: l, a => by rw [dt_getLastD_cons]; exact List.mem_cons_of_mem _ (dt_getLastD_mem l b)
/-- a founder is an ancestor or the person -/
theorem dt_fo_mem {d : dt_T} (i : Nat) : dt_fo d i ∈ i :: dt_up d i := dt_getLastD_mem _ _
theorem dt_ca_fo {d : dt_T} {i j : Nat} (e : dt_fo d i = dt_fo d j) : (dt_ca d i j).isSome := by
  unfold dt_ca
  rw [List.find?_isSome]
  refine ⟨dt_fo d i, dt_fo_mem i, ?_⟩
  have h2 := dt_fo_mem (d := d) j
  rw [← e] at h2
  exact decide_eq_true ((List.mem_cons.mp h2).imp id id)
theorem dt_bb_lt {d : dt_T} (h : dt_VP d) (a i : Nat) (hi : i < dt_n d) : dt_bb d a i < dt_n d := by
  unfold dt_bb
  cases hf : (i :: dt_up d i).find? (fun b => decide (dt_pa d b = some a)) with
  | none => exact hi
  | some b => exact dt_upo_mem_lt h hi (List.mem_of_find?_eq_some hf)
/-- holders live -/
def dt_Va (d : dt_T) : Prop := ∀ h, h < dt_k d → ∀ p, dt_ho d h = some p → dt_al d p = true
