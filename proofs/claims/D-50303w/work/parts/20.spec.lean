/-! THE PLAIN SIDE: a page as the reference's row of numbers -/
def gof (g : Nat → Int) (n w : Int) : Int := g (35 + 27 * (n - 1) + w).toNat
abbrev gky (g : Nat → Int) (n : Int) : Int := gof g n 0
abbrev gcl (g : Nat → Int) (n : Int) : Int := gof g n 1
abbrev gln (g : Nat → Int) (n : Int) : Int := gof g n 2
abbrev gch (g : Nat → Int) (n i : Int) : Int := gof g n (3 + i)
/-- the first n from 1 on, up to N, that p holds of; 0 without one -/
def zff (p : Int → Bool) : Nat → Int → Int
  | 0, _ => 0
  | k + 1, n => if p n then n else zff p k (n + 1)
def zfd (p : Int → Bool) (N : Int) : Int := zff p N.toNat 1
theorem zff_hit {p : Int → Bool} : ∀ (k : Nat) (n x : Int), n ≤ x → x < n + k → p x = true → (∀ m, n ≤ m → m < x → p m = false) → zff p k n = x
  | 0, n, x, h1, h2, _, _ => by omega
  | k + 1, n, x, h1, h2, hp, hm => by
    unfold zff
    by_cases e : n = x
    · rw [e, if_pos hp]
    · rw [hm n (by omega) (by omega)]
      exact zff_hit k (n + 1) x (by omega) (by omega) hp (fun m a b => hm m (by omega) b)
theorem zff_miss {p : Int → Bool} : ∀ (k : Nat) (n : Int), (∀ m, n ≤ m → m < n + k → p m = false) → zff p k n = 0
  | 0, n, _ => rfl
  | k + 1, n, hm => by
    unfold zff
    rw [hm n (by omega) (by omega)]
    exact zff_miss k (n + 1) (fun m a b => hm m (by omega) (by omega))
theorem zfd_hit {p : Int → Bool} {N x : Int} (h1 : 1 ≤ x) (h2 : x ≤ N) (hp : p x = true) (hm : ∀ m, 1 ≤ m → m < x → p m = false) : zfd p N = x := zff_hit _ _ _ h1 (by omega) hp hm
theorem zfd_miss {p : Int → Bool} {N : Int} (hm : ∀ m, 1 ≤ m → m ≤ N → p m = false) : zfd p N = 0 := zff_miss _ _ (fun m a b => hm m a (by omega))
theorem zff_cases {p : Int → Bool} : ∀ (k : Nat) (n : Int), (zff p k n = 0 ∧ ∀ m, n ≤ m → m < n + k → p m = false) ∨ (n ≤ zff p k n ∧ zff p k n < n + k ∧ p (zff p k n) = true ∧ ∀ m, n ≤ m → m < zff p k n → p m = false)
  | 0, n => Or.inl ⟨rfl, fun m a b => by omega⟩
  | k + 1, n => by
    unfold zff
    cases e : p n with
    | true => rw [if_pos rfl]; exact Or.inr ⟨by omega, by omega, e, fun m a b => by omega⟩
    | false =>
      rw [if_neg (by decide)]
      rcases zff_cases (p := p) k (n + 1) with ⟨h1, h2⟩ | ⟨h1, h2, h3, h4⟩
      · refine Or.inl ⟨h1, fun m a b => ?_⟩
        by_cases q : m = n
        · rw [q]; exact e
        · exact h2 m (by omega) (by omega)
      · refine Or.inr ⟨by omega, by omega, h3, fun m a b => ?_⟩
        by_cases q : m = n
        · rw [q]; exact e
        · exact h4 m (by omega) (by omega)
theorem zfd_cases (p : Int → Bool) (N : Int) : (zfd p N = 0 ∧ ∀ m, 1 ≤ m → m ≤ N → p m = false) ∨ (1 ≤ zfd p N ∧ zfd p N ≤ N ∧ p (zfd p N) = true ∧ ∀ m, 1 ≤ m → m < zfd p N → p m = false) := by
  rcases zff_cases (p := p) N.toNat 1 with ⟨h1, h2⟩ | ⟨h1, h2, h3, h4⟩
  · exact Or.inl ⟨h1, fun m a b => h2 m a (by omega)⟩
  · exact Or.inr ⟨h1, by unfold zfd; omega, h3, h4⟩
/-- sums over 1..N -/
def zsn (f : Int → Int) : Nat → Int
  | 0 => 0
  | k + 1 => zsn f k + f (k + 1)
def zsm9 (f : Int → Int) (N : Int) : Int := zsn f N.toNat
theorem zsm_0 (f : Int → Int) : zsm9 f 0 = 0 := rfl
theorem zsm_s (f : Int → Int) {n : Int} (h : 0 ≤ n) : zsm9 f (n + 1) = zsm9 f n + f (n + 1) := by
  obtain ⟨k, rfl⟩ := Int.eq_ofNat_of_zero_le h
  rfl
theorem zsm_p (f : Int → Int) {n : Int} (h : 1 ≤ n) : zsm9 f n = zsm9 f (n - 1) + f n := by
  have e := zsm_s f (n := n - 1) (by omega)
  rw [show n - 1 + 1 = n by omega] at e
  exact e
/-- the number of the line with a key; 0 without one -/
def gnu (g : Nat → Int) (key : Int) : Int := zfd (fun n => decide (gky g n = key)) (g 0)
def zR9 (g : Nat → Int) : Prop := ∀ j : Nat, zR (g j)
/-- lines that are shown among the first N (H: 1 for a hidden one) -/
def gshn (H : Nat → Int) (N : Int) : Int := zsm9 (fun n => 1 - H n.toNat) N
theorem gshn_p (H : Nat → Int) {n : Int} (h : 1 ≤ n) : gshn H n = gshn H (n - 1) + (1 - H n.toNat) := zsm_p _ h
/-- sums over 0..N-1 -/
def zs0 (f : Nat → Int) : Nat → Int
  | 0 => 0
  | k + 1 => zs0 f k + f k
def gbgn (F : Nat → Int) (n N : Int) : Int := zs0 (fun k => zB (F k = n)) N.toNat
theorem gbgn_s (F : Nat → Int) (n : Int) {k : Int} (h : 0 ≤ k) : gbgn F n (k + 1) = gbgn F n k + zB (F k.toNat = n) := by
  obtain ⟨j, rfl⟩ := Int.eq_ofNat_of_zero_le h
  rfl
/-- how many from n on, at most k, that p holds of without a break -/
def zrun (p : Int → Bool) : Nat → Int → Int
  | 0, _ => 0
  | k + 1, n => if p n then 1 + zrun p k (n + 1) else 0
theorem zrun_eq {p : Int → Bool} : ∀ (k : Nat) (n x : Int), 0 ≤ x → x ≤ k → (∀ m, n ≤ m → m < n + x → p m = true) → (x < k → p (n + x) = false) → zrun p k n = x
  | 0, n, x, h1, h2, _, _ => by unfold zrun; omega
  | k + 1, n, x, h1, h2, hp, hf => by
    unfold zrun
    by_cases e : x = 0
    · subst e
      have h3 := hf (by omega)
      rw [Int.add_zero] at h3
      rw [h3, if_neg (by decide)]
    · rw [hp n (by omega) (by omega), if_pos rfl, zrun_eq k (n + 1) (x - 1) (by omega) (by omega) (fun m a b => hp m (by omega) (by omega)) (fun h => by rw [show n + 1 + (x - 1) = n + x by omega]; exact hf (by omega))]
      omega
def ghb (H : Nat → Int) (N m : Int) : Int := if H m.toNat = 1 then 0 else zrun (fun k => decide (H k.toNat = 1)) (N - m).toNat (m + 1)
theorem ghb_eq {H : Nat → Int} {N m n : Int} (i1 : m + 1 ≤ n) (i2 : n ≤ N + 1) (i3 : H m.toNat = 1 → n = m + 1) (i4 : ∀ k, m + 1 ≤ k → k < n → H k.toNat = 1) (h : H m.toNat = 1 ∨ N < n ∨ H n.toNat ≠ 1) : ghb H N m = n - m - 1 := by
  unfold ghb
  by_cases e : H m.toNat = 1
  · rw [if_pos e]
    have := i3 e
    omega
  · rw [if_neg e]
    refine zrun_eq _ _ _ (by omega) (by omega) (fun k a b => decide_eq_true (i4 k a (by omega))) (fun q => decide_eq_false ?_)
    rw [show m + 1 + (n - m - 1) = n by omega]
    omega
def gbl (g : Nat → Int) (n : Int) : Int := zrun (fun i => decide (gch g n i = 32)) (gln g n).toNat 0
theorem gbl_eq {g : Nat → Int} {n k : Int} (i1 : 0 ≤ k) (i2 : k ≤ gln g n) (i3 : ∀ j, 0 ≤ j → j < k → gch g n j = 32) (h : gln g n ≤ k ∨ gch g n k ≠ 32) : gbl g n = k := by
  refine zrun_eq _ _ _ i1 (by omega) (fun j a b => decide_eq_true (i3 j a (by omega))) (fun q => decide_eq_false ?_)
  rw [Int.zero_add]
  omega
