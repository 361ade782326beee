/-! THE PLAIN SIDE: what would be if -/
def gcp (s : Nat → Int) (p1 : Int) (d : Nat → Int) (p2 m : Int) : Nat → Int := fun x => if p2 ≤ x ∧ (x : Int) < p2 + m then s (p1 + (x - p2)).toNat else d x
theorem zuA_uA (σ : zS) (k : Nat) (f f' : Nat → Int) : zuA (zuA σ k f) k f' = zuA σ k f' := by
  unfold zuA
  refine Prod.ext rfl (funext fun j => ?_)
  show zset (zset σ.2 k f) k f' j = zset σ.2 k f' j
  by_cases e : j = k
  · rw [e, zset_s, zset_s]
  · rw [zset_n e, zset_n e, zset_n e]
theorem zuA_id (σ : zS) (k : Nat) : zuA σ k (σ.2 k) = σ := by
  unfold zuA
  refine Prod.ext rfl (funext fun j => ?_)
  show zset σ.2 k (σ.2 k) j = σ.2 j
  by_cases e : j = k
  · rw [e, zset_s]
  · rw [zset_n e]
theorem gcp_0 (s : Nat → Int) (p1 : Int) (d : Nat → Int) (p2 : Int) : gcp s p1 d p2 0 = d := funext fun x => if_neg (by omega)
theorem gcp_s (s : Nat → Int) (p1 : Int) (d : Nat → Int) {p2 m : Int} (h2 : 0 ≤ p2) (hm : 0 ≤ m) : zset (gcp s p1 d p2 m) (p2 + m).toNat (s (p1 + m).toNat) = gcp s p1 d p2 (m + 1) := funext fun x => by
  unfold gcp
  by_cases e : x = (p2 + m).toNat
  · rw [e, zset_s, if_pos (by omega), show p1 + ((((p2 + m).toNat : Nat) : Int) - p2) = p1 + m by omega]
  · rw [zset_n e]
    by_cases e2 : p2 ≤ x ∧ (x : Int) < p2 + m
    · rw [if_pos e2, if_pos (by omega)]
    · rw [if_neg e2, if_neg (by omega)]
theorem gcp_full {s d : Nat → Int} (h : ∀ j : Nat, 2195 ≤ j → s j = d j) : gcp s 0 d 0 2195 = s := funext fun x => by
  unfold gcp
  by_cases e : (0 : Int) ≤ x ∧ (x : Int) < 0 + 2195
  · rw [if_pos e, show (0 : Int) + (x - 0) = x by omega, Int.toNat_natCast]
  · rw [if_neg e, h x (by omega)]
/-- lines that would be opened for n -/
def gopb (g : Nat → Int) (n m : Int) (k : Nat) : Bool := decide (gF g k = m ∧ (gF g k < n ∧ n < gM g k) ∧ gcl g (gF g k) = 1)
def gopk (g : Nat → Int) (n : Int) (k : Nat) (m : Int) : Int := zB (zor (gopb g n m) k = true)
theorem gopk_0 (g : Nat → Int) (n m : Int) : gopk g n 0 m = 0 := zB_f (by unfold zor; decide)
theorem gopk_s (g : Nat → Int) (n m : Int) (k : Nat) : gopk g n (k + 1) m = if gF g k = m ∧ (gF g k < n ∧ n < gM g k) ∧ gcl g (gF g k) = 1 then 1 else gopk g n k m := by
  unfold gopk
  rw [zor]
  by_cases e : gF g k = m ∧ (gF g k < n ∧ n < gM g k) ∧ gcl g (gF g k) = 1
  · rw [if_pos e]
    exact zB_t (by rw [show gopb g n m k = true from decide_eq_true e, Bool.or_true])
  · rw [if_neg e]
    rw [show gopb g n m k = false from decide_eq_false e, Bool.or_false]
def gop (g : Nat → Int) (n m : Int) : Int := gopk g n (gN g) m
theorem gop_01 (g : Nat → Int) (n m : Int) : gop g n m = 0 ∨ gop g n m = 1 := by
  unfold gop gopk
  exact zB_01 (zor (gopb g n m) (gN g) = true)
def gopm (g : Nat → Int) (n : Int) : Int := zsn (gop g n) (g 0).toNat
theorem gopm_in (g : Nat → Int) (n : Int) : ∀ k : Nat, 0 ≤ zsn (gop g n) k ∧ zsn (gop g n) k ≤ k
  | 0 => ⟨Int.le_refl _, Int.le_refl _⟩
  | k + 1 => by
    have h := gopm_in g n k
    have := gop_01 g n ((k : Int) + 1)
    rw [zsn]
    constructor <;> omega
/-- the closed marks of some lines set -/
def gsc (g : Nat → Int) (p : Int → Bool) (v : Int) : Nat → Int := fun j => if (36 ≤ j ∧ j < 2195 ∧ (j - 9) % 27 = 0) ∧ p (((j - 9) / 27 : Nat) : Int) = true then v else g j
theorem gsc_out {g : Nat → Int} {p : Int → Bool} {v : Int} {j : Nat} (h : j < 36 ∨ 2195 ≤ j ∨ (j - 9) % 27 ≠ 0) : gsc g p v j = g j := if_neg (by omega)
theorem gsc_at {g : Nat → Int} {p : Int → Bool} {v : Int} {n : Int} (h1 : 1 ≤ n) (h2 : n ≤ 80) : gcl (gsc g p v) n = if p n = true then v else gcl g n := by
  unfold gcl gof gsc
  have e : (((((35 + 27 * (n - 1) + 1).toNat - 9) / 27 : Nat) : Int)) = n := by omega
  rw [e]
  by_cases q : p n = true
  · rw [if_pos q, if_pos ⟨by omega, q⟩]
  · rw [if_neg q, if_neg (fun z => q z.2)]
theorem gsc_s {g : Nat → Int} {p p' : Int → Bool} {v n : Int} (h1 : 1 ≤ n) (h2 : n ≤ 80) (hp : ∀ m, 1 ≤ m → m ≤ 80 → p' m = (p m || decide (m = n))) : zset (gsc g p v) (35 + 27 * (n - 1) + 1).toNat v = gsc g p' v := funext fun j => by
  unfold gsc
  by_cases e : j = (35 + 27 * (n - 1) + 1).toNat
  · have e2 : (((j - 9) / 27 : Nat) : Int) = n := by omega
    rw [e2, hp n h1 h2, e, zset_s, if_pos ⟨by omega, by simp⟩]
  · rw [zset_n e]
    by_cases q : 36 ≤ j ∧ j < 2195 ∧ (j - 9) % 27 = 0
    · rw [hp _ (by omega) (by omega), show decide ((((j - 9) / 27 : Nat) : Int) = n) = false from decide_eq_false (by omega), Bool.or_false]
    · rw [if_neg (fun z => q z.1), if_neg (fun z => q z.1)]
theorem gsc_skip {g : Nat → Int} {p p' : Int → Bool} {v : Int} (hp : ∀ m, 1 ≤ m → m ≤ 80 → p' m = p m) : gsc g p v = gsc g p' v := funext fun j => by
  unfold gsc
  by_cases q : 36 ≤ j ∧ j < 2195 ∧ (j - 9) % 27 = 0
  · rw [hp _ (by omega) (by omega)]
  · rw [if_neg (fun z => q z.1), if_neg (fun z => q z.1)]
theorem gsc_none {g : Nat → Int} {p : Int → Bool} {v : Int} (hp : ∀ m, 1 ≤ m → m ≤ 80 → p m = false) : gsc g p v = g := funext fun j => by
  unfold gsc
  by_cases q : 36 ≤ j ∧ j < 2195 ∧ (j - 9) % 27 = 0
  · rw [hp _ (by omega) (by omega), if_neg (fun z => by cases z.2)]
  · rw [if_neg (fun z => q z.1)]
theorem gsc_gof {g : Nat → Int} {p : Int → Bool} {v n w : Int} (h1 : 1 ≤ n) (h2 : 0 ≤ w) (h3 : w < 27) (h4 : w ≠ 1) : gof (gsc g p v) n w = gof g n w := by
  unfold gof
  exact gsc_out (by omega)
theorem gsc_gln {g : Nat → Int} {p : Int → Bool} {v n : Int} (h1 : 1 ≤ n) : gln (gsc g p v) n = gln g n := gsc_gof h1 (by omega) (by omega) (by omega)
theorem gsc_gky {g : Nat → Int} {p : Int → Bool} {v n : Int} (h1 : 1 ≤ n) : gky (gsc g p v) n = gky g n := gsc_gof h1 (by omega) (by omega) (by omega)
theorem gsc_lo {g : Nat → Int} {p : Int → Bool} {v : Int} {j : Nat} (h : j < 36) : gsc g p v j = g j := gsc_out (Or.inl h)
theorem zwf_sc {g : Nat → Int} (h : zwf g) (p : Int → Bool) (v : Int) : zwf (gsc g p v) := by
  obtain ⟨h1, h2, h3⟩ := h
  have e : gsc g p v 0 = g 0 := gsc_lo (by omega)
  refine ⟨by rw [e]; exact h1, by rw [e]; exact h2, fun n a b => ?_⟩
  rw [gsc_gln a]
  exact h3 n a (by rw [e] at b; exact b)
/-- opened for n -/
def gswp (g : Nat → Int) (n m : Int) : Bool := decide (1 ≤ m ∧ m ≤ g 0 ∧ gop g n m = 1)
def gsw (g : Nat → Int) (n : Int) : Nat → Int := gsc g (gswp g n) 0
theorem gsw_0 (g : Nat → Int) (n : Int) : gsw g n 0 = g 0 := gsc_lo (by omega)
theorem gsw_hi (g : Nat → Int) (n : Int) (j : Nat) (h : 2195 ≤ j) : gsw g n j = g j := gsc_out (Or.inr (Or.inl h))
/-- the marked lines, opened one after another -/
def gomF (g : Nat → Int) (n : Int) (s : (Nat → Int) × Int) : (Nat → Int) × Int := if gmo s.1 (gky s.1 n) = 0 then s else (gsw s.1 n, s.2 + gopm s.1 n)
def gom (g : Nat → Int) : Nat → (Nat → Int) × Int
  | 0 => (g, 0)
  | k + 1 => gomF g ((k : Int) + 1) (gom g k)
theorem gom_p (g : Nat → Int) {n : Int} (h : 1 ≤ n) : gom g n.toNat = gomF g n (gom g (n - 1).toNat) := by
  rw [show n.toNat = (n - 1).toNat + 1 by omega, gom]
  rw [show (((n - 1).toNat : Nat) : Int) + 1 = n by omega]
/-- rows that tell the same sizes -/
def zlk (g g' : Nat → Int) : Prop := g' 0 = g 0 ∧ (∀ j : Nat, 2195 ≤ j → g' j = g j) ∧ ∀ n, 1 ≤ n → gln g' n = gln g n
theorem zlk.sw {g g' : Nat → Int} (h : zlk g g') (n : Int) : zlk g (gsw g' n) := ⟨(gsw_0 g' n).trans h.1, fun j hj => (gsw_hi g' n j hj).trans (h.2.1 j hj), fun m hm => (gsc_gln hm).trans (h.2.2 m hm)⟩
theorem zlk.wf {g g' : Nat → Int} (h : zlk g g') (hw : zwf g) : zwf g' := by
  obtain ⟨h1, h2, h3⟩ := hw
  exact ⟨by rw [h.1]; exact h1, by rw [h.1]; exact h2, fun n a b => by rw [h.2.2 n a]; exact h3 n a (by rw [h.1] at b; exact b)⟩
theorem gom_lk (g : Nat → Int) : ∀ k : Nat, zlk g (gom g k).1 ∧ 0 ≤ (gom g k).2 ∧ (gom g k).2 ≤ k * (g 0).toNat
  | 0 => ⟨⟨rfl, fun _ _ => rfl, fun _ _ => rfl⟩, Int.le_refl _, by show (0 : Int) ≤ _; omega⟩
  | k + 1 => by
    obtain ⟨h1, h2, h3⟩ := gom_lk g k
    have h4 := gopm_in (gom g k).1 ((k : Int) + 1) ((gom g k).1 0).toNat
    rw [h1.1] at h4
    have e : ((k + 1 : Nat) : Int) * ((g 0).toNat : Int) = k * (g 0).toNat + (g 0).toNat := by rw [Int.natCast_add, Int.add_mul]; omega
    rw [gom]
    unfold gomF
    split
    · exact ⟨h1, h2, by omega⟩
    · refine ⟨h1.sw _, ?_, ?_⟩
      · show 0 ≤ (gom g k).2 + gopm _ _
        unfold gopm
        rw [h1.1]
        omega
      · show (gom g k).2 + gopm _ _ ≤ _
        unfold gopm
        rw [h1.1]
        omega
/-- the closing that leaves least -/
def gbcF (g : Nat → Int) (n : Int) (s : Int × Int) : Int × Int := if grow g (gc2 g n 1) (g 0) < s.2 then (n, grow g (gc2 g n 1) (g 0)) else s
def gbc (g : Nat → Int) : Nat → Int × Int
  | 0 => (0, grow g (gcl g) (g 0))
  | k + 1 => gbcF g ((k : Int) + 1) (gbc g k)
theorem gbc_p (g : Nat → Int) {n : Int} (h : 1 ≤ n) : gbc g n.toNat = gbcF g n (gbc g (n - 1).toNat) := by
  rw [show n.toNat = (n - 1).toNat + 1 by omega, gbc]
  rw [show (((n - 1).toNat : Nat) : Int) + 1 = n by omega]
/-- steps from a line to another along references -/
def gst (g : Nat → Int) (b : Int) : Nat → Int → Int → Int
  | 0, _, _ => -1
  | k + 1, a, i => if a = b then i else if gtg g a ≤ 0 then -1 else gst g b k (gtg g a) (i + 1)
theorem gcp_back {g d q : Nat → Int} (h : ∀ j : Nat, 2195 ≤ j → q j = g j) : gcp (gcp g 0 d 0 2195) 0 q 0 2195 = g := funext fun x => by
  unfold gcp
  by_cases e : (0 : Int) ≤ x ∧ (x : Int) < 0 + 2195
  · rw [if_pos e, show (0 : Int) + (x - 0) = x by omega, Int.toNat_natCast, if_pos e, show (0 : Int) + (x - 0) = x by omega, Int.toNat_natCast]
  · rw [if_neg e, h x (by omega)]
theorem zuA_id' {σ : zS} (k : Nat) {f : Nat → Int} (h : σ.2 k = f) : zuA σ k f = σ := by
  subst h
  exact zuA_id σ k
theorem zSm_up {σ ρ : zS} {q F : Nat → Int} (h : zSm (zuA σ 1 q) ρ) : zSm (zuA σ 1 F) (zuA ρ 1 F) := by
  have := h.cA 1 F
  rw [zuA_uA] at this
  exact this
