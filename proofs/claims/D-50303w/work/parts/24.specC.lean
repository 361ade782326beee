/-! THE PLAIN SIDE: mates are mutual; regions and their table -/
theorem gmm_e5n {g : Nat → Int} {p q : Nat} (h1 : gpc g p = 125) (hs : gbs g p = []) : gmm g (p + 1) q = if q = p then -1 else gmm g p q := by
  rw [gmm, if_pos h1, hs]
theorem gmm_e5c {g : Nat → Int} {p q t : Nat} {s : List Nat} (h1 : gpc g p = 125) (hs : gbs g p = t :: s) : gmm g (p + 1) q = if q = p then (t : Int) else if q = t then (p : Int) else gmm g p q := by
  rw [gmm, if_pos h1, hs]
theorem gmm_e3 {g : Nat → Int} {p q : Nat} (h1 : gpc g p = 123) : gmm g (p + 1) q = if q = p then -1 else gmm g p q := by
  rw [gmm, if_neg (by omega), if_pos h1]
theorem gmm_e0 {g : Nat → Int} {p q : Nat} (h1 : gpc g p ≠ 123) (h2 : gpc g p ≠ 125) : gmm g (p + 1) q = gmm g p q := by
  rw [gmm, if_neg h2, if_neg h1]
theorem gmm_keep {g : Nat → Int} {p q : Nat} (hq : q ≠ p) (hn : q ∉ gbs g p) : gmm g (p + 1) q = gmm g p q := by
  by_cases h1 : gpc g p = 123
  · rw [gmm_e3 h1, if_neg hq]
  · by_cases h2 : gpc g p = 125
    · cases hs : gbs g p with
      | nil => rw [gmm_e5n h2 hs, if_neg hq]
      | cons t s => rw [gmm_e5c h2 hs, if_neg hq, if_neg (fun z => hn (by rw [hs, z]; exact List.mem_cons_self))]
    · exact gmm_e0 h1 h2
theorem gmm_hi {g : Nat → Int} : ∀ (p q : Nat), p ≤ q → gmm g p q = -1
  | 0, q, _ => rfl
  | p + 1, q, h => by
    rw [gmm_keep (by omega) (fun z => by have := (gbs_lt p q z).1; omega)]
    exact gmm_hi p q (by omega)
theorem gmm_st {g : Nat → Int} {p q : Nat} (hq : q < p) (hn : q ∉ gbs g p) : ∀ k : Nat, gmm g (p + k) q = gmm g p q ∧ q ∉ gbs g (p + k)
  | 0 => ⟨rfl, hn⟩
  | k + 1 => by
    obtain ⟨h1, h2⟩ := gmm_st hq hn k
    have hne : ¬ q = p + k := by omega
    have e : p + (k + 1) = p + k + 1 := by omega
    rw [e]
    constructor
    · rw [gmm_keep hne h2, h1]
    · unfold gbs
      split
      · exact fun z => (List.mem_cons.mp z).elim hne h2
      · split
        · exact fun z => h2 (List.mem_of_mem_tail z)
        · exact h2
theorem gmt_st {g : Nat → Int} {p q : Nat} (hp : p ≤ 1920) (hq : q < p) (hn : q ∉ gbs g p) : gmt g q = gmm g p q := by
  have := (gmm_st hq hn (1920 - p)).1
  rwa [show p + (1920 - p) = 1920 by omega] at this
theorem gmm_op {g : Nat → Int} : ∀ (p t : Nat), t ∈ gbs g p → gmm g p t = -1
  | 0, t, h => rfl
  | p + 1, t, h => by
    unfold gbs at h
    by_cases h1 : gpc g p = 123
    · rw [if_pos h1] at h
      rw [gmm_e3 h1]
      by_cases e : t = p
      · rw [if_pos e]
      · rw [if_neg e]
        exact gmm_op p t ((List.mem_cons.mp h).resolve_left e)
    · rw [if_neg h1] at h
      by_cases h2 : gpc g p = 125
      · rw [if_pos h2] at h
        have nd := gbs_nd (g := g) p
        cases hs : gbs g p with
        | nil => rw [hs] at h; cases h
        | cons u s =>
          rw [hs] at h nd
          have hts : t ∈ s := h
          have htp := (gbs_lt p t (by rw [hs]; exact List.mem_cons_of_mem _ hts)).1
          rw [gmm_e5c h2 hs, if_neg (by omega), if_neg (fun z : t = u => (List.nodup_cons.mp nd).1 (by rw [← z]; exact hts))]
          exact gmm_op p t (by rw [hs]; exact List.mem_cons_of_mem _ hts)
      · rw [if_neg h2] at h
        rw [gmm_e0 h1 h2]
        exact gmm_op p t h
/-- a closing bracket and the open one on top -/
theorem gmt_pair {g : Nat → Int} {p t : Nat} {s : List Nat} (hp : p < 1920) (h1 : gpc g p = 125) (hs : gbs g p = t :: s) : gmt g p = t ∧ gmt g t = p := by
  have h2 : ¬ gpc g p = 123 := by omega
  have hb : gbs g (p + 1) = s := by rw [gbs, if_neg h2, if_pos h1, hs]; rfl
  have nd := gbs_nd (g := g) p
  rw [hs] at nd
  have htp := (gbs_lt p t (by rw [hs]; exact List.mem_cons_self)).1
  constructor
  · rw [gmt_st (p := p + 1) (by omega) (by omega) (fun z => by rw [hb] at z; exact Nat.lt_irrefl _ (gbs_lt p p (by rw [hs]; exact List.mem_cons_of_mem _ z)).1)]
    rw [gmm_e5c h1 hs]
    exact if_pos rfl
  · rw [gmt_st (p := p + 1) (by omega) (by omega) (fun z => by rw [hb] at z; exact (List.nodup_cons.mp nd).1 z)]
    rw [gmm_e5c h1 hs, if_neg (by omega), if_pos rfl]
theorem gmt_lost {g : Nat → Int} {p : Nat} (hp : p < 1920) (h1 : gpc g p = 125) (hs : gbs g p = []) : gmt g p = -1 := by
  have h2 : ¬ gpc g p = 123 := by omega
  have hb : gbs g (p + 1) = [] := by rw [gbs, if_neg h2, if_pos h1, hs]; rfl
  rw [gmt_st (p := p + 1) (by omega) (by omega) (by rw [hb]; exact List.not_mem_nil), gmm_e5n h1 hs]
  exact if_pos rfl
theorem gmt_open {g : Nat → Int} {t : Nat} : ∀ (k p : Nat), p + k = 1920 → t ∈ gbs g p → gmt g t = -1 ∨ ((p : Int) ≤ gmt g t ∧ gmt g t < 1920)
  | 0, p, hp, h => Or.inl (by rw [show p = 1920 by omega] at h; exact gmm_op 1920 t h)
  | k + 1, p, hp, h => by
    by_cases h1 : t ∈ gbs g (p + 1)
    · rcases gmt_open k (p + 1) (by omega) h1 with z | z
      · exact Or.inl z
      · exact Or.inr ⟨by omega, z.2⟩
    · have h2 : ¬ gpc g p = 123 := fun z => h1 (by rw [gbs, if_pos z]; exact List.mem_cons_of_mem _ h)
      have h3 : gpc g p = 125 := Decidable.byContradiction fun z => h1 (by rw [gbs, if_neg h2, if_neg z]; exact h)
      cases hs : gbs g p with
      | nil => rw [hs] at h; cases h
      | cons u s =>
        have hu : u = t := by
          rw [hs] at h
          rcases List.mem_cons.mp h with z | z
          · exact z.symm
          · exact absurd (by rw [gbs, if_neg h2, if_pos h3, hs]; exact z) h1
        subst hu
        exact Or.inr (by rw [(gmt_pair (by omega) h3 hs).2]; omega)
/-- an open bracket's mate lies behind it -/
theorem gmt_gt {g : Nat → Int} {p : Nat} (hp : p < 1920) (h1 : gpc g p = 123) : gmt g p = -1 ∨ ((p : Int) < gmt g p ∧ gmt g p < 1920) := by
  rcases gmt_open (1920 - (p + 1)) (p + 1) (by omega) (show p ∈ gbs g (p + 1) by rw [gbs, if_pos h1]; exact List.mem_cons_self) with z | z
  · exact Or.inl z
  · exact Or.inr ⟨by omega, z.2⟩
/-- the open bracket of a region; the closing one -/
def gro (g : Nat → Int) (q : Nat) : Bool := decide (gpc g q = 123 ∧ gmt g q ≠ -1 ∧ gmt g q / 24 ≠ (q : Int) / 24)
def grc (g : Nat → Int) (q : Nat) : Bool := decide (gpc g q = 125 ∧ gmt g q ≠ -1 ∧ gmt g q / 24 ≠ (q : Int) / 24)
def rls (g : Nat → Int) (p : Nat) : List Nat := (List.range p).filter (gro g)
def grk (g : Nat → Int) (p : Nat) : List Nat := (gbs g p).filter (gro g)
theorem rls_s (g : Nat → Int) (p : Nat) : rls g (p + 1) = rls g p ++ (if gro g p = true then [p] else []) := by
  unfold rls
  rw [List.range_succ, List.filter_append]
  congr 1
  by_cases h : gro g p = true
  · rw [if_pos h]; simp [h]
  · rw [if_neg h]; simp [h]
theorem gro_lt {g : Nat → Int} {p : Nat} (h : gro g p = true) : gpc g p = 123 := (of_decide_eq_true h).1
theorem grk_open {g : Nat → Int} {p : Nat} (h : gro g p = true) : grk g (p + 1) = p :: grk g p := by
  unfold grk
  rw [gbs, if_pos (gro_lt h), List.filter_cons, if_pos h]
theorem grk_close {g : Nat → Int} {p : Nat} (hp : p < 1920) (h : grc g p = true) : grk g (p + 1) = (grk g p).tail ∧ grk g p ≠ [] := by
  obtain ⟨h1, h2, h3⟩ := of_decide_eq_true h
  cases hs : gbs g p with
  | nil => exact absurd (gmt_lost hp h1 hs) h2
  | cons t s =>
    obtain ⟨e1, e2⟩ := gmt_pair hp h1 hs
    have hg : gro g t = true := decide_eq_true ⟨(gbs_lt p t (by rw [hs]; exact List.mem_cons_self)).2, by rw [e2]; omega, by rw [e1] at h3; rw [e2]; exact fun z => h3 z.symm⟩
    have hk : grk g p = t :: s.filter (gro g) := by
      unfold grk
      rw [hs, List.filter_cons, if_pos hg]
    refine ⟨?_, by rw [hk]; exact List.cons_ne_nil _ _⟩
    rw [hk]
    unfold grk
    rw [gbs, if_neg (by omega), if_pos h1, hs]
    rfl
theorem grk_same {g : Nat → Int} {p : Nat} (hp : p < 1920) (h : gro g p = false) (h2 : grc g p = false) : grk g (p + 1) = grk g p := by
  unfold grk
  by_cases h1 : gpc g p = 123
  · rw [gbs, if_pos h1, List.filter_cons, if_neg (by rw [h]; decide)]
  · by_cases h3 : gpc g p = 125
    · rw [gbs, if_neg h1, if_pos h3]
      cases hs : gbs g p with
      | nil => rfl
      | cons t s =>
        obtain ⟨e1, e2⟩ := gmt_pair hp h3 hs
        have hg : gro g t = false := by
          refine decide_eq_false fun z => ?_
          have := of_decide_eq_false h2
          rw [e1] at this
          rw [e2] at z
          exact this ⟨h3, by omega, fun y => z.2.2 y.symm⟩
        show s.filter (gro g) = _
        rw [List.filter_cons, if_neg (by rw [hg]; decide)]
    · rw [gbs, if_neg h1, if_neg h3]
theorem grk_end (g : Nat → Int) : grk g 1920 = [] := by
  unfold grk
  refine List.filter_eq_nil_iff.mpr fun t ht h => ?_
  exact (of_decide_eq_true h).2.1 (gmm_op 1920 t ht)
theorem grk_len (g : Nat → Int) : ∀ (k p : Nat), p + k = 1920 → (grk g p).length ≤ k
  | 0, p, h => by rw [show p = 1920 by omega, grk_end]; exact Nat.le_refl _
  | k + 1, p, h => by
    have ih := grk_len g k (p + 1) (by omega)
    cases h1 : gro g p with
    | true => rw [grk_open h1] at ih; simp at ih; omega
    | false =>
      cases h2 : grc g p with
      | true =>
        have := grk_close (g := g) (p := p) (by omega) h2
        rw [this.1, List.length_tail] at ih
        omega
      | false => rw [grk_same (by omega) h1 h2] at ih; omega
def rlc (g : Nat → Int) (p : Nat) : List Nat := (List.range p).filter (grc g)
theorem rlc_s (g : Nat → Int) (p : Nat) : rlc g (p + 1) = rlc g p ++ (if grc g p = true then [p] else []) := by
  unfold rlc
  rw [List.range_succ, List.filter_append]
  congr 1
  by_cases h : grc g p = true
  · rw [if_pos h]; simp [h]
  · rw [if_neg h]; simp [h]
theorem gro_grc {g : Nat → Int} {p : Nat} (h : gro g p = true) : grc g p = false := decide_eq_false fun z => by
  have := gro_lt h
  omega
theorem rls_bal (g : Nat → Int) : ∀ p : Nat, p ≤ 1920 → (rls g p).length = (rlc g p).length + (grk g p).length ∧ (rls g p).length + (rlc g p).length ≤ p
  | 0, _ => ⟨rfl, Nat.le_refl _⟩
  | p + 1, hp => by
    obtain ⟨h1, h2⟩ := rls_bal g p (by omega)
    rw [rls_s, rlc_s]
    cases e1 : gro g p with
    | true =>
      rw [grk_open e1, gro_grc e1]
      simp
      omega
    | false =>
      cases e2 : grc g p with
      | true =>
        obtain ⟨e3, e4⟩ := grk_close (g := g) (p := p) (by omega) e2
        have := List.length_pos_iff.mpr e4
        rw [e3]
        simp
        omega
      | false =>
        rw [grk_same (by omega) e1 e2]
        simp
        omega
theorem rls_960 (g : Nat → Int) {p : Nat} (hp : p ≤ 1920) : 2 * (rls g p).length ≤ 1920 := by
  have h1 := rls_bal g p hp
  have h2 := grk_len g (1920 - p) p (by omega)
  omega
/-- a region's parent, by its open bracket's place -/
def gpa (g : Nat → Int) (q : Nat) : Int := match grk g q with
  | [] => -1
  | t :: _ => (rls g t).length
/-- the table of regions -/
def gN (g : Nat → Int) : Nat := (rls g 1920).length
def gp (g : Nat → Int) (r : Nat) : Nat := (rls g 1920).getD r 0
def gF (g : Nat → Int) (r : Nat) : Int := (gp g r : Int) / 24 + 1
def gM (g : Nat → Int) (r : Nat) : Int := gmt g (gp g r) / 24 + 1
def gO (g : Nat → Int) (r : Nat) : Int := (gp g r : Int) % 24
def gS (g : Nat → Int) (r : Nat) : Int := gmt g (gp g r) % 24
def gV (g : Nat → Int) (r : Nat) : Int := (grk g (gp g r)).length
def gA (g : Nat → Int) (r : Nat) : Int := gpa g (gp g r)
theorem rls_get {g : Nat → Int} {p j : Nat} (hj : j < (rls g p).length) : ∀ k : Nat, (rls g (p + k)).getD j 0 = (rls g p).getD j 0 ∧ j < (rls g (p + k)).length
  | 0 => ⟨rfl, hj⟩
  | k + 1 => by
    obtain ⟨h1, h2⟩ := rls_get hj k
    rw [show p + (k + 1) = p + k + 1 by omega, rls_s]
    refine ⟨?_, by rw [List.length_append]; omega⟩
    rw [← h1, List.getD_eq_getElem?_getD, List.getD_eq_getElem?_getD, List.getElem?_append_left h2]
theorem gp_get {g : Nat → Int} {p j : Nat} (hp : p ≤ 1920) (hj : j < (rls g p).length) : gp g j = (rls g p).getD j 0 := by
  have := (rls_get hj (1920 - p)).1
  rwa [show p + (1920 - p) = 1920 by omega] at this
/-- the place of a region's open bracket is the region's, and its number is how many are ahead -/
theorem gp_at {g : Nat → Int} {p : Nat} (hp : p < 1920) (h : gro g p = true) : gp g (rls g p).length = p ∧ (rls g p).length < gN g := by
  have e : rls g (p + 1) = rls g p ++ [p] := by rw [rls_s, if_pos h]
  have hl : (rls g p).length < (rls g (p + 1)).length := by rw [e]; simp
  refine ⟨?_, ?_⟩
  · rw [gp_get (p := p + 1) (by omega) hl, e]
    simp
  · have := (rls_get hl (1920 - (p + 1))).2
    rwa [show p + 1 + (1920 - (p + 1)) = 1920 by omega] at this
theorem gp_ro {g : Nat → Int} {r : Nat} (h : r < gN g) : gp g r < 1920 ∧ gro g (gp g r) = true := by
  have hm : gp g r ∈ rls g 1920 := by
    unfold gp
    rw [List.getD_eq_getElem?_getD, List.getElem?_eq_getElem h]
    exact List.getElem_mem h
  have := List.mem_filter.mp hm
  exact ⟨List.mem_range.mp this.1, this.2⟩
theorem gN_le (g : Nat → Int) : gN g ≤ 960 := by
  have := rls_960 g (Nat.le_refl 1920)
  unfold gN
  omega
/-- what the table's rows lie in -/
theorem g_rows {g : Nat → Int} (hw : zwf g) {r : Nat} (h : r < gN g) : 1 ≤ gF g r ∧ gF g r < gM g r ∧ gM g r ≤ g 0 ∧ 0 ≤ gV g r ∧ gV g r ≤ 960 ∧ 0 ≤ gO g r ∧ gO g r < 24 ∧ 0 ≤ gS g r ∧ gS g r < 24 := by
  obtain ⟨h1, h2⟩ := gp_ro h
  obtain ⟨h3, h4, h5⟩ := of_decide_eq_true h2
  have h6 := gmt_gt h1 h3
  have h7 := rls_bal g (gp g r) (by omega)
  have h10 := rls_960 g (p := gp g r) (by omega)
  have h8 : gpc g (gmt g (gp g r)).toNat ≠ 0 := by
    intro z
    rcases h6 with y | y
    · exact h4 y
    · -- the mate is a closing bracket
      have key : ∀ (k p : Nat), p + k = 1920 → gp g r ∈ gbs g p → gpc g (gmt g (gp g r)).toNat = 125 := by
        intro k
        induction k with
        | zero =>
          intro p hp ht
          rw [show p = 1920 by omega] at ht
          exact absurd (gmm_op 1920 _ ht) h4
        | succ k ih =>
          intro p hp ht
          by_cases q1 : gp g r ∈ gbs g (p + 1)
          · exact ih (p + 1) (by omega) q1
          · have q2 : ¬ gpc g p = 123 := fun z => q1 (by rw [gbs, if_pos z]; exact List.mem_cons_of_mem _ ht)
            have q3 : gpc g p = 125 := Decidable.byContradiction fun z => q1 (by rw [gbs, if_neg q2, if_neg z]; exact ht)
            cases hs : gbs g p with
            | nil => rw [hs] at ht; cases ht
            | cons u s =>
              have hu : u = gp g r := by
                rw [hs] at ht
                rcases List.mem_cons.mp ht with z | z
                · exact z.symm
                · exact absurd (by rw [gbs, if_neg q2, if_pos q3, hs]; exact z) q1
              have hq := (gmt_pair (by omega) q3 hs).2
              rw [hu] at hq
              rw [hq]
              exact q3
      have := key (1920 - (gp g r + 1)) (gp g r + 1) (by omega) (by rw [gbs, if_pos h3]; exact List.mem_cons_self)
      omega
  have h9 : 24 * g 0 > gmt g (gp g r) := by
    rcases Int.lt_or_le (gmt g (gp g r)) (24 * g 0) with z | z
    · exact z
    · exact absurd (gpc_far (by omega)) h8
  unfold gF gM gO gS gV
  refine ⟨by omega, by omega, by omega, by omega, by omega, by omega, by omega, by omega, by omega⟩
/-- the picture of laysRegions after so many places -/
def zRL (g : Nat → Int) (p : Nat) (nr top : Int) (K F M O S V A : Nat → Int) : Prop :=
  nr = (rls g p).length ∧ top = (grk g p).length ∧ zsk K ((grk g p).map (fun t => (rls g t).length)) ∧ ∀ j, j < (rls g p).length → F j = gF g j ∧ M j = gM g j ∧ O j = gO g j ∧ S j = gS g j ∧ V j = gV g j ∧ A j = gA g j
theorem zRL_0 (g : Nat → Int) (K F M O S V A : Nat → Int) : zRL g 0 0 0 K F M O S V A := ⟨rfl, rfl, trivial, fun j h => absurd h (Nat.not_lt_zero j)⟩
theorem zRL_in {g : Nat → Int} {p : Nat} (hp : p ≤ 1920) {nr top : Int} {K F M O S V A : Nat → Int} (h : zRL g p nr top K F M O S V A) : 0 ≤ nr ∧ nr ≤ 960 ∧ 0 ≤ top ∧ top ≤ 960 := by
  obtain ⟨e1, e2, -⟩ := h
  have h1 := rls_960 g hp
  have h2 := rls_bal g p hp
  omega
theorem zRL_skip1 {g : Nat → Int} {p : Nat} (hp : p < 1920) {nr top : Int} {K F M O S V A : Nat → Int} (h : zRL g p nr top K F M O S V A) (h1 : gro g p = false) (h2 : grc g p = false) : zRL g (p + 1) nr top K F M O S V A := by
  unfold zRL
  rw [rls_s, h1, grk_same hp h1 h2]
  simp only [Bool.false_eq_true, if_false, List.append_nil]
  exact h
theorem zRL_skip {g : Nat → Int} {nr top : Int} {K F M O S V A : Nat → Int} : ∀ (k p : Nat), p + k ≤ 1920 → zRL g p nr top K F M O S V A → (∀ q, p ≤ q → q < p + k → gpc g q = 0) → zRL g (p + k) nr top K F M O S V A
  | 0, p, _, h, _ => h
  | k + 1, p, hp, h, hz => by
    have h0 := hz p (Nat.le_refl _) (by omega)
    have := zRL_skip k (p + 1) (by omega) (zRL_skip1 (by omega) h (decide_eq_false (fun z => by omega)) (decide_eq_false (fun z => by omega))) (fun q a b => hz q (by omega) (by omega))
    rw [show p + (k + 1) = p + 1 + k by omega]
    exact this
theorem zRL_to {g : Nat → Int} {nr top : Int} {K F M O S V A : Nat → Int} {p q : Nat} (h : zRL g p nr top K F M O S V A) (hq : p ≤ q) (hq2 : q ≤ 1920) (hz : ∀ j, p ≤ j → j < q → gpc g j = 0) : zRL g q nr top K F M O S V A := by
  have := zRL_skip (q - p) p (by omega) h (fun j a b => hz j a (by omega))
  rwa [show p + (q - p) = q by omega] at this
theorem zRL_close {g : Nat → Int} {p : Nat} (hp : p < 1920) {nr top t' : Int} {K F M O S V A : Nat → Int} (h : zRL g p nr top K F M O S V A) (h1 : grc g p = true) (ht : t' = top - 1) : zRL g (p + 1) nr t' K F M O S V A := by
  obtain ⟨e1, e2, e3, e4⟩ := h
  obtain ⟨k1, k2⟩ := grk_close hp h1
  have h2 : gro g p = false := by
    cases e : gro g p with
    | false => rfl
    | true => rw [gro_grc e] at h1; cases h1
  cases hk : grk g p with
  | nil => exact absurd hk k2
  | cons t s =>
    rw [hk] at k1 e2 e3
    unfold zRL
    rw [rls_s, h2, k1]
    refine ⟨by simpa using e1, ?_, e3.2, by simpa using e4⟩
    simp at e2 ⊢
    omega
theorem zRL_open {g : Nat → Int} {p : Nat} (hp : p < 1920) {nr top v m : Int} {K F M O S V A : Nat → Int} (h : zRL g p nr top K F M O S V A) (h1 : gro g p = true) (hv : v = p) (hm : m = gmt g p) :
    zRL g (p + 1) (nr + 1) (top + 1) (zset K top.toNat nr) (zset F nr.toNat (v / 24 + 1)) (zset M nr.toNat (m / 24 + 1)) (zset O nr.toNat (v % 24)) (zset S nr.toNat (m % 24)) (zset V nr.toNat top) (zset A nr.toNat (if top = 0 then -1 else K (top - 1).toNat)) := by
  obtain ⟨e1, e2, e3, e4⟩ := h
  subst hv; subst hm
  obtain ⟨g1, g2⟩ := gp_at hp h1
  have el : rls g (p + 1) = rls g p ++ [p] := by rw [rls_s, if_pos h1]
  have en : nr.toNat = (rls g p).length := by omega
  refine ⟨by rw [el, e1]; simp, by rw [grk_open h1, e2]; simp, ?_, fun j hj => ?_⟩
  · rw [grk_open h1]
    refine ⟨?_, zsk_set e3 (by rw [List.length_map]; omega)⟩
    rw [List.length_map, show (grk g p).length = top.toNat by omega, zset_s]
    exact e1
  · rw [el, List.length_append] at hj
    simp at hj
    rw [en]
    by_cases z : j = (rls g p).length
    · subst z
      rw [zset_s, zset_s, zset_s, zset_s, zset_s, zset_s]
      unfold gF gM gO gS gV gA gpa
      rw [g1]
      refine ⟨rfl, rfl, rfl, rfl, e2, ?_⟩
      cases hk : grk g p with
      | nil =>
        rw [hk] at e2
        rw [if_pos (by simpa using e2)]
      | cons t s =>
        rw [hk] at e2 e3
        have e5 : top = s.length + 1 := by simpa using e2
        rw [if_neg (by omega), show (top - 1).toNat = (s.map (fun t => (rls g t).length)).length by rw [List.length_map]; omega]
        exact e3.1
    · rw [zset_n z, zset_n z, zset_n z, zset_n z, zset_n z, zset_n z]
      exact e4 j (by omega)
/-- regions are laid -/
def zRt (g : Nat → Int) (τ : zS) : Prop := τ.1 22 = gN g ∧ ∀ j : Nat, j < gN g → τ.2 14 j = gF g j ∧ τ.2 15 j = gM g j ∧ τ.2 16 j = gO g j ∧ τ.2 17 j = gS g j ∧ τ.2 18 j = gV g j ∧ τ.2 19 j = gA g j
theorem zRt_of {g : Nat → Int} {p : Nat} (hw : zwf g) (hp : 24 * g 0 ≤ p) (hp2 : p ≤ 1920) {τ : zS} {top : Int} (h : zRL g p (τ.1 22) top (τ.2 12) (τ.2 14) (τ.2 15) (τ.2 16) (τ.2 17) (τ.2 18) (τ.2 19)) : zRt g τ := by
  obtain ⟨e1, -, -, e4⟩ := zRL_to h hp2 (Nat.le_refl _) (fun j a b => gpc_far (by omega))
  exact ⟨e1, e4⟩
theorem gro_of {g : Nat → Int} {p : Nat} {n : Int} (hp : p < 1920) (hn : (p : Int) / 24 + 1 = n) (hb : gpc g p = 123 ∨ gpc g p = 125) (h1 : gmt g p ≠ -1) (h2 : gmt g p / 24 + 1 ≠ n) : (gmt g p > p → gro g p = true) ∧ (gmt g p ≤ p → grc g p = true) := by
  constructor
  · intro h
    rcases hb with z | z
    · exact decide_eq_true ⟨z, h1, by omega⟩
    · exfalso
      cases hs : gbs g p with
      | nil => exact h1 (gmt_lost hp z hs)
      | cons t s =>
        have := (gbs_lt p t (by rw [hs]; exact List.mem_cons_self)).1
        rw [(gmt_pair hp z hs).1] at h
        omega
  · intro h
    rcases hb with z | z
    · rcases gmt_gt hp z with y | y
      · exact absurd y h1
      · omega
    · exact decide_eq_true ⟨z, h1, by omega⟩
theorem gr_no {g : Nat → Int} {p : Nat} {n : Int} (hn : (p : Int) / 24 + 1 = n) (h : (gpc g p ≠ 123 ∧ gpc g p ≠ 125) ∨ gmt g p = -1 ∨ gmt g p / 24 + 1 = n) : gro g p = false ∧ grc g p = false := by
  constructor
  · refine decide_eq_false fun z => ?_
    rcases h with y | y | y
    · exact y.1 z.1
    · exact z.2.1 y
    · omega
  · refine decide_eq_false fun z => ?_
    rcases h with y | y | y
    · exact y.2 z.1
    · exact z.2.1 y
    · omega
theorem gmt_in {g : Nat → Int} {p : Nat} (hp : p < 1920) (hb : gpc g p = 123 ∨ gpc g p = 125) : -1 ≤ gmt g p ∧ gmt g p < 1920 := by
  rcases hb with z | z
  · rcases gmt_gt hp z with y | y <;> omega
  · cases hs : gbs g p with
    | nil => rw [gmt_lost hp z hs]; omega
    | cons t s =>
      have := (gbs_lt p t (by rw [hs]; exact List.mem_cons_self)).1
      rw [(gmt_pair hp z hs).1]
      omega
/-- depth, and what is hidden where c tells (1) which lines are closed -/
def zor (f : Nat → Bool) : Nat → Bool
  | 0 => false
  | k + 1 => zor f k || f k
def gdk (g : Nat → Int) (k : Nat) (n : Int) : Int := zs0 (fun r => zB (gF g r < n ∧ n < gM g r)) k
def ghk (g : Nat → Int) (c : Int → Int) (k : Nat) (n : Int) : Int := zB (zor (fun r => decide (c (gF g r) = 1 ∧ gF g r < n ∧ n < gM g r)) k = true)
def gdp (g : Nat → Int) (n : Int) : Int := gdk g (gN g) n
def ghd (g : Nat → Int) (c : Int → Int) (n : Int) : Int := ghk g c (gN g) n
def gc2 (g : Nat → Int) (th as m : Int) : Int := if m = th then as else gcl g m
def zHk (g : Nat → Int) (c : Int → Int) (k : Nat) (D H : Nat → Int) : Prop := ∀ n : Int, 0 ≤ n → n ≤ g 0 + 1 → D n.toNat = gdk g k n ∧ H n.toNat = ghk g c k n
def zHd (g : Nat → Int) (c : Int → Int) (τ : zS) : Prop := zHk g c (gN g) (τ.2 20) (τ.2 21)
/-- region k is spread over the lines ahead of x -/
def zHx (g : Nat → Int) (c : Int → Int) (k : Nat) (x : Int) (D H : Nat → Int) : Prop := ∀ n : Int, 0 ≤ n → n ≤ g 0 + 1 → D n.toNat = gdk g (if n < x then k + 1 else k) n ∧ H n.toNat = ghk g c (if n < x then k + 1 else k) n
theorem gdk_s (g : Nat → Int) (k : Nat) (n : Int) : gdk g (k + 1) n = gdk g k n + zB (gF g k < n ∧ n < gM g k) := rfl
theorem ghk_s (g : Nat → Int) (c : Int → Int) (k : Nat) (n : Int) : ghk g c (k + 1) n = zB (ghk g c k n = 1 ∨ (c (gF g k) = 1 ∧ gF g k < n ∧ n < gM g k)) := by
  unfold ghk zB
  simp only [zor, Bool.or_eq_true, decide_eq_true_eq]
  by_cases h : zor (fun r => decide (c (gF g r) = 1 ∧ gF g r < n ∧ n < gM g r)) k = true <;> simp [h]
theorem ghk_01 (g : Nat → Int) (c : Int → Int) (k : Nat) (n : Int) : ghk g c k n = 0 ∨ ghk g c k n = 1 := zB_01 _
theorem gdk_in (g : Nat → Int) (n : Int) : ∀ k : Nat, 0 ≤ gdk g k n ∧ gdk g k n ≤ k
  | 0 => ⟨Int.le_refl _, Int.le_refl _⟩
  | k + 1 => by
    have h := gdk_in g n k
    rw [gdk_s]
    rcases zB_01 (gF g k < n ∧ n < gM g k) with e | e <;> rw [e] <;> constructor <;> omega
theorem zHx_0 {g : Nat → Int} {c : Int → Int} {k : Nat} {D H : Nat → Int} (h : zHk g c k D H) : zHx g c k (gF g k + 1) D H := by
  intro n h0 h1
  obtain ⟨e1, e2⟩ := h n h0 h1
  by_cases z : n < gF g k + 1
  · rw [if_pos z, gdk_s, ghk_s, zB_f (fun y => by omega), e1, e2]
    refine ⟨by omega, ?_⟩
    rcases ghk_01 g c k n with y | y
    · rw [y, zB_f (by omega)]
    · rw [y, zB_t (Or.inl rfl)]
  · rw [if_neg z]
    exact ⟨e1, e2⟩
theorem zHx_s {g : Nat → Int} {c : Int → Int} {k : Nat} {x : Int} {D H : Nat → Int} (h : zHx g c k x D H) (h0 : 0 ≤ x) (h1 : gF g k < x) (h2 : x < gM g k) {fd : Int} (hfd : fd = zB (c (gF g k) = 1)) : zHx g c k (x + 1) (zset D x.toNat (D x.toNat + 1)) (zset H x.toNat (zB (H x.toNat = 1 ∨ fd = 1))) := by
  intro n n0 n1
  obtain ⟨e1, e2⟩ := h n n0 n1
  by_cases z : n = x
  · subst z
    rw [if_neg (by omega)] at e1 e2
    rw [zset_s, zset_s, if_pos (by omega), gdk_s, ghk_s, e1, e2, zB_t (p := gF g k < n ∧ n < gM g k) ⟨h1, h2⟩]
    refine ⟨rfl, ?_⟩
    subst hfd
    by_cases y : c (gF g k) = 1
    · rw [zB_t (Or.inr (zB_t y)), zB_t (Or.inr ⟨y, h1, h2⟩)]
    · rw [zB_f (p := c (gF g k) = 1) y]
      rcases ghk_01 g c k n with w | w
      · rw [w, zB_f (by omega), zB_f (fun q => by rcases q with q | q; omega; exact y q.1)]
      · rw [w, zB_t (Or.inl rfl), zB_t (Or.inl rfl)]
  · have hn : n.toNat ≠ x.toNat := by omega
    rw [zset_n hn, zset_n hn]
    by_cases y : n < x
    · rw [if_pos y] at e1 e2
      rw [if_pos (by omega)]
      exact ⟨e1, e2⟩
    · rw [if_neg y] at e1 e2
      rw [if_neg (by omega)]
      exact ⟨e1, e2⟩
theorem zHx_e {g : Nat → Int} {c : Int → Int} {k : Nat} {x : Int} {D H : Nat → Int} (h : zHx g c k x D H) (h1 : gM g k ≤ x) : zHk g c (k + 1) D H := by
  intro n n0 n1
  obtain ⟨e1, e2⟩ := h n n0 n1
  by_cases y : n < x
  · rw [if_pos y] at e1 e2
    exact ⟨e1, e2⟩
  · rw [if_neg y] at e1 e2
    rw [gdk_s, ghk_s, zB_f (fun y => by omega), e1, e2]
    refine ⟨by omega, ?_⟩
    rcases ghk_01 g c k n with w | w
    · rw [w, zB_f (by omega)]
    · rw [w, zB_t (Or.inl rfl)]
theorem zHk_0 {g : Nat → Int} {c : Int → Int} {D H : Nat → Int} (h : ∀ n : Int, 0 ≤ n → n ≤ g 0 + 1 → D n.toNat = 0 ∧ H n.toNat = 0) : zHk g c 0 D H := fun n a b => by
  obtain ⟨e1, e2⟩ := h n a b
  rw [e1, e2]
  exact ⟨rfl, (zB_f (fun h => Bool.false_ne_true h)).symm⟩
theorem zI_or01 {a b : Int} (ha : a = 0 ∨ a = 1) (hb : b = 0 ∨ b = 1) : zI a ||| zI b = zI (zB (a = 1 ∨ b = 1)) := by
  rcases ha with rfl | rfl <;> rcases hb with rfl | rfl <;> decide
/-- a page is laid out, c told which lines are closed -/
def zLd (g : Nat → Int) (c : Int → Int) (τ : zS) : Prop := zMt g τ ∧ zRt g τ ∧ zHd g c τ
theorem zor_congr {f f' : Nat → Bool} : ∀ k : Nat, (∀ r, r < k → f r = f' r) → zor f k = zor f' k
  | 0, _ => rfl
  | k + 1, h => by rw [zor, zor, zor_congr k (fun r q => h r (by omega)), h k (by omega)]
theorem ghk_congr {g : Nat → Int} {c c' : Int → Int} {k : Nat} {n : Int} (h : ∀ r, r < k → c (gF g r) = c' (gF g r)) : ghk g c k n = ghk g c' k n := by
  unfold ghk
  rw [zor_congr k (fun r q => by rw [h r q])]
theorem zLd_cc {g : Nat → Int} (hw : zwf g) {τ : zS} (h : zLd g (gc2 g 0 0) τ) : zLd g (gcl g) τ := by
  refine ⟨h.1, h.2.1, fun n a b => ?_⟩
  have e := h.2.2 n a b
  rw [ghk_congr (c' := gcl g) (fun r q => by
    have := (g_rows hw q).1
    unfold gc2
    rw [if_neg (by omega)])] at e
  exact e
