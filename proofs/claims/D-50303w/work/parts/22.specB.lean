/-! THE PLAIN SIDE: brackets and regions of a page, by places (24 to a line) -/
def gpc (g : Nat → Int) (p : Nat) : Int := if ((p / 24 : Nat) : Int) + 1 ≤ g 0 ∧ ((p % 24 : Nat) : Int) < gln g (((p / 24 : Nat) : Int) + 1) then gch g (((p / 24 : Nat) : Int) + 1) ((p % 24 : Nat) : Int) else 0
/-- the stack of open brackets ahead of a place -/
def gbs (g : Nat → Int) : Nat → List Nat
  | 0 => []
  | p + 1 => if gpc g p = 123 then p :: gbs g p else if gpc g p = 125 then (gbs g p).tail else gbs g p
/-- the mates after so many places -/
def gmm (g : Nat → Int) : Nat → Nat → Int
  | 0, _ => -1
  | p + 1, q => if gpc g p = 125 then (match gbs g p with
      | [] => if q = p then -1 else gmm g p q
      | t :: _ => if q = p then (t : Int) else if q = t then (p : Int) else gmm g p q)
    else if gpc g p = 123 then (if q = p then -1 else gmm g p q) else gmm g p q
def gmt (g : Nat → Int) (q : Nat) : Int := gmm g 1920 q
/-- closing ones without a mate, after so many places -/
def glc (g : Nat → Int) : Nat → Int
  | 0 => 0
  | p + 1 => if gpc g p = 125 ∧ gbs g p = [] then glc g p + 1 else glc g p
def gls (g : Nat → Int) : Int := glc g 1920 + (gbs g 1920).length
theorem gbs_lt {g : Nat → Int} : ∀ (p : Nat), ∀ q ∈ gbs g p, q < p ∧ gpc g q = 123
  | 0, q, h => by cases h
  | p + 1, q, h => by
    unfold gbs at h
    split at h
    · rcases List.mem_cons.mp h with rfl | h
      · exact ⟨Nat.lt_succ_self _, by assumption⟩
      · exact ⟨Nat.lt_succ_of_lt (gbs_lt p q h).1, (gbs_lt p q h).2⟩
    · split at h
      · have := gbs_lt p q (List.mem_of_mem_tail h)
        exact ⟨Nat.lt_succ_of_lt this.1, this.2⟩
      · exact ⟨Nat.lt_succ_of_lt (gbs_lt p q h).1, (gbs_lt p q h).2⟩
theorem gbs_nd {g : Nat → Int} : ∀ (p : Nat), (gbs g p).Nodup
  | 0 => List.nodup_nil
  | p + 1 => by
    unfold gbs
    split
    · exact List.nodup_cons.mpr ⟨fun h => Nat.lt_irrefl _ (gbs_lt p p h).1, gbs_nd p⟩
    · split
      · exact (gbs_nd p).tail
      · exact gbs_nd p
/-- an array that holds a stack, its bottom at 0 -/
def zsk (K : Nat → Int) : List Nat → Prop
  | [] => True
  | t :: s => K s.length = t ∧ zsk K s
theorem zsk_set {K : Nat → Int} {k : Nat} {v : Int} : ∀ {s : List Nat}, zsk K s → s.length ≤ k → zsk (zset K k v) s
  | [], _, _ => trivial
  | t :: s, h, hk => ⟨by rw [zset_n (by simp at hk; omega)]; exact h.1, zsk_set h.2 (by simp at hk; omega)⟩
/-- the picture of laysMates after so many places -/
def zML (g : Nat → Int) (p : Nat) (M K : Nat → Int) (top lo : Int) : Prop :=
  top = (gbs g p).length ∧ zsk K (gbs g p) ∧ lo = glc g p ∧ ∀ q, q < p → (gpc g q = 123 ∨ gpc g q = 125) → M q = gmm g p q
theorem zML_0 (g : Nat → Int) (M K : Nat → Int) : zML g 0 M K 0 0 := ⟨rfl, trivial, rfl, fun q h => absurd h (Nat.not_lt_zero q)⟩
theorem zML_skip1 {g : Nat → Int} {p : Nat} {M K : Nat → Int} {top lo : Int} (h : zML g p M K top lo) (h1 : gpc g p ≠ 123) (h2 : gpc g p ≠ 125) {M' : Nat → Int} (hM : ∀ q, q < p → M' q = M q) : zML g (p + 1) M' K top lo := by
  obtain ⟨e1, e2, e3, e4⟩ := h
  have hb : gbs g (p + 1) = gbs g p := by rw [gbs, if_neg h1, if_neg h2]
  refine ⟨by rw [hb]; exact e1, by rw [hb]; exact e2, by rw [glc, if_neg (fun z => h2 z.1)]; exact e3, fun q hq hc => ?_⟩
  have hqp : q < p := by
    rcases Nat.lt_succ_iff_lt_or_eq.mp hq with z | z
    · exact z
    · subst z
      rcases hc with z | z
      · exact absurd z h1
      · exact absurd z h2
  rw [gmm, if_neg h2, if_neg h1, hM q hqp]
  exact e4 q hqp hc
theorem zML_open {g : Nat → Int} {p : Nat} {M K : Nat → Int} {top lo v : Int} (h : zML g p M K top lo) (h1 : gpc g p = 123) (hv : v = p) : zML g (p + 1) (zset M p (-1)) (zset K top.toNat v) (top + 1) lo := by
  obtain ⟨e1, e2, e3, e4⟩ := h
  subst hv
  have hb : gbs g (p + 1) = p :: gbs g p := by rw [gbs, if_pos h1]
  have h2 : gpc g p ≠ 125 := by omega
  refine ⟨by rw [hb, e1]; simp, ?_, by rw [glc, if_neg (fun z => h2 z.1)]; exact e3, fun q hq hc => ?_⟩
  · rw [hb]
    have et : top.toNat = (gbs g p).length := by omega
    exact ⟨by rw [et, zset_s], zsk_set e2 (by omega)⟩
  · rw [gmm, if_neg h2, if_pos h1]
    by_cases z : q = p
    · rw [if_pos z, z, zset_s]
    · rw [if_neg z, zset_n z]
      exact e4 q (by omega) hc
theorem zML_peek {g : Nat → Int} {p : Nat} {M K : Nat → Int} {top lo t' : Int} (h : zML g p M K top lo) (ht : 0 < top) (h' : t' = top - 1) : ∃ t s, gbs g p = t :: s ∧ K t'.toNat = t ∧ t < p ∧ t' = s.length := by
  obtain ⟨e1, e2, e3, e4⟩ := h
  cases hs : gbs g p with
  | nil => rw [hs] at e1; simp at e1; omega
  | cons t s =>
    rw [hs] at e1 e2
    have ek : t'.toNat = s.length := by simp at e1; omega
    exact ⟨t, s, rfl, by rw [ek]; exact e2.1, (gbs_lt p t (by rw [hs]; exact List.mem_cons_self)).1, by simp at e1; omega⟩
theorem zML_close {g : Nat → Int} {p : Nat} {M K : Nat → Int} {top lo t' v : Int} (h : zML g p M K top lo) (h1 : gpc g p = 125) (ht : 0 < top) (h' : t' = top - 1) (hv : v = p) : zML g (p + 1) (zset (zset (zset M p (-1)) p (K t'.toNat)) (K t'.toNat).toNat v) K t' lo := by
  obtain ⟨t, s, hs, eK, htp, es⟩ := zML_peek h ht h'
  obtain ⟨e1, e2, e3, e4⟩ := h
  subst hv
  have h2 : gpc g p ≠ 123 := by omega
  have hb : gbs g (p + 1) = s := by rw [gbs, if_neg h2, if_pos h1, hs]; rfl
  rw [hs] at e2
  refine ⟨by rw [hb]; exact es, by rw [hb]; exact e2.2, by rw [glc, if_neg (fun z => by rw [hs] at z; exact absurd z.2 (by simp))]; exact e3, fun q hq hc => ?_⟩
  rw [gmm, if_pos h1, hs]
  show _ = if q = p then (t : Int) else if q = t then (p : Int) else gmm g p q
  rw [eK, Int.toNat_natCast]
  by_cases z : q = p
  · rw [if_pos z, zset_n (by omega), z, zset_s]
  · rw [if_neg z]
    by_cases y : q = t
    · rw [if_pos y, y, zset_s]
    · rw [if_neg y, zset_n y, zset_n z, zset_n z]
      exact e4 q (by omega) hc
theorem gbs_len (g : Nat → Int) : ∀ p : Nat, (gbs g p).length ≤ p
  | 0 => Nat.le_refl _
  | p + 1 => by
    have h := gbs_len g p
    unfold gbs
    split
    · simp; exact h
    · split
      · rw [List.length_tail]; omega
      · omega
theorem glc_in (g : Nat → Int) : ∀ p : Nat, 0 ≤ glc g p ∧ glc g p ≤ p
  | 0 => ⟨Int.le_refl _, Int.le_refl _⟩
  | p + 1 => by
    have h := glc_in g p
    unfold glc
    split <;> constructor <;> omega
theorem zML_in {g : Nat → Int} {p : Nat} {M K : Nat → Int} {top lo : Int} (h : zML g p M K top lo) : 0 ≤ top ∧ top ≤ p ∧ 0 ≤ lo ∧ lo ≤ p := by
  have h1 := gbs_len g p
  have h2 := glc_in g p
  obtain ⟨e1, e2, e3, e4⟩ := h
  exact ⟨by omega, by omega, by omega, by omega⟩
theorem zML_lost {g : Nat → Int} {p : Nat} {M K : Nat → Int} {top lo : Int} (h : zML g p M K top lo) (h1 : gpc g p = 125) (ht : top ≤ 0) : zML g (p + 1) (zset M p (-1)) K top (lo + 1) := by
  obtain ⟨e1, e2, e3, e4⟩ := h
  have h2 : gpc g p ≠ 123 := by omega
  have hs : gbs g p = [] := List.length_eq_zero_iff.mp (by omega)
  have hb : gbs g (p + 1) = [] := by rw [gbs, if_neg h2, if_pos h1, hs]; rfl
  refine ⟨by rw [hb, e1, hs], by rw [hb]; trivial, by rw [glc, if_pos ⟨h1, hs⟩, e3], fun q hq hc => ?_⟩
  rw [gmm, if_pos h1, hs]
  show _ = if q = p then (-1 : Int) else gmm g p q
  by_cases z : q = p
  · rw [if_pos z, z, zset_s]
  · rw [if_neg z, zset_n z]
    exact e4 q (by omega) hc
theorem gpc_off {g : Nat → Int} {n : Int} {p : Nat} (h1 : 1 ≤ n) (hn : (p : Int) < 24 * n) (hp : 24 * (n - 1) + gln g n ≤ p) (h0 : 0 ≤ gln g n) : gpc g p = 0 := by
  unfold gpc
  rw [if_neg]
  intro z
  have e : ((p / 24 : Nat) : Int) + 1 = n := by omega
  rw [e] at z
  omega
theorem gpc_in {g : Nat → Int} {n i : Int} (h1 : 1 ≤ n) (h2 : n ≤ g 0) (h3 : 0 ≤ i) (h4 : i < gln g n) (h5 : gln g n ≤ 24) : gpc g (24 * (n - 1) + i).toNat = gch g n i := by
  unfold gpc
  have e1 : (((24 * (n - 1) + i).toNat / 24 : Nat) : Int) + 1 = n := by omega
  have e2 : (((24 * (n - 1) + i).toNat % 24 : Nat) : Int) = i := by omega
  rw [e1, e2, if_pos ⟨h2, h4⟩]
theorem gpc_far {g : Nat → Int} {p : Nat} (h : 24 * g 0 ≤ p) : gpc g p = 0 := by
  unfold gpc
  rw [if_neg]
  intro z
  omega
theorem zML_skip {g : Nat → Int} {M K : Nat → Int} {top lo : Int} : ∀ (k p : Nat), zML g p M K top lo → (∀ q, p ≤ q → q < p + k → gpc g q = 0) → zML g (p + k) M K top lo
  | 0, p, h, _ => h
  | k + 1, p, h, hz => by
    have h0 := hz p (Nat.le_refl _) (by omega)
    have := zML_skip k (p + 1) (zML_skip1 h (by rw [h0]; decide) (by rw [h0]; decide) (fun _ _ => rfl)) (fun q a b => hz q (by omega) (by omega))
    rw [show p + (k + 1) = p + 1 + k by omega]
    exact this
theorem zML_to {g : Nat → Int} {M K : Nat → Int} {top lo : Int} {p q : Nat} (h : zML g p M K top lo) (hq : p ≤ q) (hz : ∀ j, p ≤ j → j < q → gpc g j = 0) : zML g q M K top lo := by
  have := zML_skip (q - p) p h (fun j a b => hz j a (by omega))
  rwa [show p + (q - p) = q by omega] at this
/-- what scratch a walk may change: the arrays mate .. isHidden, isOpened, the scalars regions and loose; a call from outside also aside, order, moved -/
def zScr (k : Nat) : Bool := (11 ≤ k && k ≤ 21) || k == 24
def zScp (k : Nat) : Bool := zScr k || k == 2 || k == 27 || k == 28
theorem zScp_f {k : Nat} (h : zScp k = false) : zScr k = false := by
  unfold zScp at h
  cases e : zScr k with
  | false => rfl
  | true => rw [e] at h; cases h
def zSm (σ τ : zS) : Prop := (∀ k, k ≠ 22 → k ≠ 23 → τ.1 k = σ.1 k) ∧ ∀ k, zScr k = false → τ.2 k = σ.2 k
theorem zSm.refl (σ : zS) : zSm σ σ := ⟨fun _ _ _ => rfl, fun _ _ => rfl⟩
theorem zSm.trans {σ τ ρ : zS} (h : zSm σ τ) (h2 : zSm τ ρ) : zSm σ ρ := ⟨fun k a b => (h2.1 k a b).trans (h.1 k a b), fun k a => (h2.2 k a).trans (h.2 k a)⟩
theorem zSm.uA {σ τ : zS} (h : zSm σ τ) {k : Nat} (hk : zScr k = true) (f : Nat → Int) : zSm σ (zuA τ k f) := ⟨h.1, fun j hj => by
  show zset τ.2 k f j = _
  rw [zset_n (fun z => by rw [z, hk] at hj; cases hj)]
  exact h.2 j hj⟩
theorem zSm.uS {σ τ : zS} (h : zSm σ τ) {k : Nat} (hk : k = 22 ∨ k = 23) (v : Int) : zSm σ (zuS τ k v) := ⟨fun j a b => by
  show zset τ.1 k v j = _
  rw [zset_n (by omega)]
  exact h.1 j a b, h.2⟩
theorem zSm.cS {σ τ : zS} (h : zSm σ τ) (k : Nat) (v : Int) : zSm (zuS σ k v) (zuS τ k v) := ⟨fun j a b => by
  show zset τ.1 k v j = zset σ.1 k v j
  by_cases e : j = k
  · rw [e, zset_s, zset_s]
  · rw [zset_n e, zset_n e]; exact h.1 j a b, h.2⟩
theorem zSm.cA {σ τ : zS} (h : zSm σ τ) (k : Nat) (f : Nat → Int) : zSm (zuA σ k f) (zuA τ k f) := ⟨h.1, fun j hj => by
  show zset τ.2 k f j = zset σ.2 k f j
  by_cases e : j = k
  · rw [e, zset_s, zset_s]
  · rw [zset_n e, zset_n e]; exact h.2 j hj⟩
theorem zSm.on1 {σ τ ρ : zS} (h : zSm σ τ) {k : Nat} {F : Nat → Int} (hA : ∀ j, j ≠ k → ρ.2 j = τ.2 j) (hB : ∀ j, ρ.1 j = τ.1 j) (hC : ρ.2 k = F) : zSm (zuA σ k F) ρ := ⟨fun j a b => (hB j).trans (h.1 j a b), fun j hj => by
  show ρ.2 j = zset σ.2 k F j
  by_cases e : j = k
  · rw [e, zset_s]; exact hC
  · rw [zset_n e, hA j e]; exact h.2 j hj⟩
theorem zSm.onS {σ τ ρ : zS} (h : zSm σ τ) {k : Nat} (hk : zScr k = true) (hA : ∀ j, j ≠ k → ρ.2 j = τ.2 j) (hB : ∀ j, ρ.1 j = τ.1 j) : zSm σ ρ := ⟨fun j a b => (hB j).trans (h.1 j a b), fun j hj => by
  rw [hA j (fun z => by rw [z, hk] at hj; cases hj)]
  exact h.2 j hj⟩
/-- brackets are laid -/
def zMt (g : Nat → Int) (τ : zS) : Prop := (∀ q : Nat, (gpc g q = 123 ∨ gpc g q = 125) → τ.2 11 q = gmt g q) ∧ τ.1 23 = gls g
/-- a page's sizes -/
def zwf (g : Nat → Int) : Prop := 0 ≤ g 0 ∧ g 0 ≤ 80 ∧ ∀ n, 1 ≤ n → n ≤ g 0 → 0 ≤ gln g n ∧ gln g n ≤ 24
theorem zMt_of {g : Nat → Int} {τ : zS} {M K : Nat → Int} {top lo : Int} {p : Nat} (hw : zwf g) (hp : 24 * g 0 ≤ p) (hp2 : p ≤ 1920) (h : zML g p M K top lo) (e1 : τ.2 11 = M) (e2 : τ.1 23 = lo + top) : zMt g τ := by
  obtain ⟨a1, a2, a3, a4⟩ := zML_to h hp2 (fun j a b => gpc_far (by omega))
  refine ⟨fun q hc => ?_, by rw [e2, a3, a1]; rfl⟩
  have hq : q < 1920 := by
    rcases Nat.lt_or_ge q 1920 with z | z
    · exact z
    · have := gpc_far (g := g) (p := q) (by have := hw.2.1; omega)
      rw [this] at hc
      rcases hc with z | z <;> exact absurd z (by decide)
  rw [e1]
  exact a4 q hq hc
