/-! THE PLAIN SIDE: queries of a page -/
theorem zs0_s (f : Nat → Int) {k : Int} (h : 0 ≤ k) : zs0 f (k + 1).toNat = zs0 f k.toNat + f k.toNat := by
  rw [show (k + 1).toNat = k.toNat + 1 by omega]
  rfl
theorem zsn_p (f : Int → Int) {n : Int} (h : 1 ≤ n) : zsn f n.toNat = zsn f (n - 1).toNat + f n := by
  rw [show n.toNat = (n - 1).toNat + 1 by omega, zsn]
  rw [show (((n - 1).toNat : Nat) : Int) + 1 = n by omega]
theorem zrun_in (p : Int → Bool) : ∀ (k : Nat) (n : Int), 0 ≤ zrun p k n ∧ zrun p k n ≤ k
  | 0, n => by unfold zrun; omega
  | k + 1, n => by
    unfold zrun
    have := zrun_in p k (n + 1)
    split <;> omega
theorem gbl_in (g : Nat → Int) (n : Int) (h : 0 ≤ gln g n) : 0 ≤ gbl g n ∧ gbl g n ≤ gln g n := by
  have := zrun_in (fun i => decide (gch g n i = 32)) (gln g n).toNat 0
  unfold gbl
  omega
theorem gwid_p (g : Nat → Int) {n : Int} (h : 1 ≤ n) : zfo (gwidF g) 0 n.toNat = if ghH g (gcl g) n.toNat = 0 ∧ (zfo (gwidF g) 0 (n - 1).toNat = 0 ∨ gln g (zfo (gwidF g) 0 (n - 1).toNat) < gln g n) then n else zfo (gwidF g) 0 (n - 1).toNat := by
  rw [zfo_p _ _ h]
  generalize zfo (gwidF g) 0 (n - 1).toNat = b
  unfold gwidF
  rw [show (n - 1).toNat + 1 = n.toNat by omega, show (((n - 1).toNat : Nat) : Int) + 1 = n by omega]
theorem gdee_p (g : Nat → Int) {n : Int} (h : 1 ≤ n) : zfo (gdeeF g) 0 n.toNat = if zfo (gdeeF g) 0 (n - 1).toNat = 0 ∨ gdp g (zfo (gdeeF g) 0 (n - 1).toNat) < gdp g n then n else zfo (gdeeF g) 0 (n - 1).toNat := by
  rw [zfo_p _ _ h]
  generalize zfo (gdeeF g) 0 (n - 1).toNat = b
  unfold gdeeF
  rw [show (((n - 1).toNat : Nat) : Int) + 1 = n by omega]
theorem ginn_s (g : Nat → Int) (n : Int) {k : Int} (h : 0 ≤ k) : zfo (ginnF g n) (-1) (k + 1).toNat = if (gF g k.toNat < n ∧ n < gM g k.toNat) ∧ (zfo (ginnF g n) (-1) k.toNat = -1 ∨ gV g (zfo (ginnF g n) (-1) k.toNat).toNat < gV g k.toNat) then k else zfo (ginnF g n) (-1) k.toNat := by
  rw [zfo_s _ _ h]
  generalize zfo (ginnF g n) (-1) k.toNat = b
  unfold ginnF
  rw [Int.toNat_of_nonneg h]
theorem gout_s (g : Nat → Int) (n : Int) {k : Int} (h : 0 ≤ k) : zfo (gouF g n) (-1) (k + 1).toNat = if (gF g k.toNat < n ∧ n < gM g k.toNat) ∧ gcl g (gF g k.toNat) = 1 ∧ (zfo (gouF g n) (-1) k.toNat = -1 ∨ gV g k.toNat < gV g (zfo (gouF g n) (-1) k.toNat).toNat) then k else zfo (gouF g n) (-1) k.toNat := by
  rw [zfo_s _ _ h]
  generalize zfo (gouF g n) (-1) k.toNat = b
  unfold gouF
  rw [Int.toNat_of_nonneg h]
/-- what is asked of a region -/
def gRg (g : Nat → Int) (k w : Int) : Int := if w = 0 then gF g k.toNat else if w = 1 then gM g k.toNat else if w = 2 then gO g k.toNat else if w = 3 then gS g k.toNat else if w = 4 then zB (gcl g (gF g k.toNat) = 1) else if w = 5 then gV g k.toNat else if w = 6 then gM g k.toNat - gF g k.toNat - 1 else gA g k.toNat
/-- markers as bits -/
def gmoF (g : Nat → Int) (key : Int) (m : Nat) (a : Int) : Int := (zI a ||| zI (if g (5 + m) = key then (zI 1 <<< (zI m &&& 31)).toInt else 0)).toInt
def gmo (g : Nat → Int) (key : Int) : Int := zfo (gmoF g key) 0 10
theorem gmo_R (g : Nat → Int) (key : Int) : zR (gmo g key) := zR_toInt _
theorem gmo_s (g : Nat → Int) (key : Int) {k : Int} (h : 0 ≤ k) : zfo (gmoF g key) 0 (k + 1).toNat = (zI (zfo (gmoF g key) 0 k.toNat) ||| zI (if g (5 + k.toNat) = key then (zI 1 <<< (zI k &&& 31)).toInt else 0)).toInt := by
  rw [zfo_s _ _ h]
  generalize zfo (gmoF g key) 0 k.toNat = b
  unfold gmoF
  rw [Int.toNat_of_nonneg h]
/-- counts -/
def gfm (g : Nat → Int) : Int := zs0 (fun k => zB (gcl g (gF g k) = 1)) (gN g)
def gmm9 (g : Nat → Int) : Int := zs0 (fun m => zB (g (5 + m) ≠ -1)) 10
/-- letters from a place on; labels; references -/
def glr (g : Nat → Int) (n k : Int) : Int := zrun (fun j => decide (97 ≤ gch g n j ∧ gch g n j ≤ 122)) (gln g n - k).toNat k
theorem glr_eq {g : Nat → Int} {n k j : Int} (h0 : k ≤ j) (h : j ≤ gln g n) (hm : ∀ m, k ≤ m → m < j → 97 ≤ gch g n m ∧ gch g n m ≤ 122) (hs : gln g n ≤ j ∨ ¬ (97 ≤ gch g n j ∧ gch g n j ≤ 122)) : glr g n k = j - k := by
  refine zrun_eq _ _ _ (by omega) (by omega) (fun m a b => decide_eq_true (hm m a (by omega))) (fun q => decide_eq_false ?_)
  rw [show k + (j - k) = j by omega]
  omega
def glb (g : Nat → Int) (n : Int) : Int := if gbl g n + glr g n (gbl g n) < gln g n ∧ gch g n (gbl g n + glr g n (gbl g n)) = 58 ∧ (1 ≤ glr g n (gbl g n) ∧ glr g n (gbl g n) ≤ 8) then glr g n (gbl g n) else 0
theorem glb_eq {g : Nat → Int} {n j : Int} (h : glr g n (gbl g n) = j - gbl g n) : glb g n = if j < gln g n ∧ gch g n j = 58 ∧ (1 ≤ j - gbl g n ∧ j - gbl g n ≤ 8) then j - gbl g n else 0 := by
  unfold glb
  rw [h, show gbl g n + (j - gbl g n) = j by omega]
theorem glb_in (g : Nat → Int) (n : Int) : 0 ≤ glb g n ∧ glb g n ≤ 8 ∧ (glb g n = 0 ∨ gbl g n + glb g n < gln g n) := by
  unfold glb
  split <;> omega
def gr0 (g : Nat → Int) (n : Int) : Int := zfd (fun m => decide (gch g n (m - 1) = 64 ∧ 97 ≤ gch g n m ∧ gch g n m ≤ 122)) (gln g n - 1)
def grf (g : Nat → Int) (n : Int) : Int := if gr0 g n = 0 then -1 else gr0 g n
theorem grf_hit {g : Nat → Int} {n k : Int} (h1 : 1 ≤ k) (h2 : k < gln g n) (hp : gch g n (k - 1) = 64 ∧ 97 ≤ gch g n k ∧ gch g n k ≤ 122) (hm : ∀ m, 1 ≤ m → m < k → ¬ (gch g n (m - 1) = 64 ∧ 97 ≤ gch g n m ∧ gch g n m ≤ 122)) : grf g n = k := by
  have e : gr0 g n = k := zfd_hit h1 (by omega) (decide_eq_true hp) (fun m a b => decide_eq_false (hm m a b))
  unfold grf
  rw [e, if_neg (by omega)]
theorem grf_miss {g : Nat → Int} {n : Int} (hm : ∀ m, 1 ≤ m → m < gln g n → ¬ (gch g n (m - 1) = 64 ∧ 97 ≤ gch g n m ∧ gch g n m ≤ 122)) : grf g n = -1 := by
  have e : gr0 g n = 0 := zfd_miss (fun m a b => decide_eq_false (hm m a (by omega)))
  unfold grf
  rw [e, if_pos rfl]
theorem grf_in (g : Nat → Int) (n : Int) : grf g n = -1 ∨ (1 ≤ grf g n ∧ grf g n < gln g n ∧ 97 ≤ gch g n (grf g n) ∧ gch g n (grf g n) ≤ 122) := by
  rcases zfd_cases (fun m => decide (gch g n (m - 1) = 64 ∧ 97 ≤ gch g n m ∧ gch g n m ≤ 122)) (gln g n - 1) with ⟨h, -⟩ | ⟨h1, h2, h3, -⟩
  · exact Or.inl (by unfold grf gr0; rw [h, if_pos rfl])
  · have h3 := of_decide_eq_true h3
    have e : grf g n = gr0 g n := by unfold grf; rw [if_neg (by unfold gr0; omega)]
    rw [e]
    exact Or.inr ⟨h1, by unfold gr0; omega, h3.2⟩
def grl (g : Nat → Int) (n : Int) : Int := glr g n (grf g n)
theorem grl_in (g : Nat → Int) {n : Int} (h : grf g n ≠ -1) : 0 ≤ grl g n ∧ grf g n + grl g n ≤ gln g n := by
  have h1 := zrun_in (fun j => decide (97 ≤ gch g n j ∧ gch g n j ≤ 122)) (gln g n - grf g n).toNat (grf g n)
  have h2 := grf_in g n
  unfold grl glr
  omega
/-- the reference of n is the label of o -/
abbrev glt (g : Nat → Int) (n o : Int) : Prop := glb g o = grl g n ∧ ∀ j : Nat, j < (grl g n).toNat → gch g o (gbl g o + j) = gch g n (grf g n + j)
def gld (g : Nat → Int) (n : Int) : Int := zfd (fun o => decide (glt g n o)) (g 0)
def gtg (g : Nat → Int) (n : Int) : Int := if grf g n = -1 then 0 else if gld g n = 0 then -1 else gld g n
theorem gld_in {g : Nat → Int} (n : Int) : 0 ≤ gld g n ∧ (gld g n ≤ g 0 ∨ gld g n = 0) := by
  rcases zfd_cases (fun o => decide (glt g n o)) (g 0) with ⟨h, -⟩ | ⟨h1, h2, -⟩
  · unfold gld; rw [h]; omega
  · unfold gld; omega
theorem gtg_in {g : Nat → Int} (n : Int) : -1 ≤ gtg g n ∧ (gtg g n ≤ g 0 ∨ gtg g n ≤ 0) := by
  have := gld_in (g := g) n
  unfold gtg
  split
  · omega
  · split <;> omega
def glm (g : Nat → Int) : Int := zsn (fun n => zB (0 < glb g n)) (g 0).toNat
def grm (g : Nat → Int) : Int := zsn (fun n => zB (grf g n ≠ -1)) (g 0).toNat
/-- bytes of the buffer in a line -/
abbrev gha (g b : Nat → Int) (n i m : Int) : Prop := i + m ≤ gln g n ∧ ∀ j : Nat, j < m.toNat → gch g n (i + j) = b j
abbrev ghs (g b : Nat → Int) (n m : Int) : Prop := ∃ i : Nat, i < (gln g n).toNat ∧ gha g b n i m
/-- the first of N lines from n on, round, that p holds of; 0: none -/
def grn (N n : Int) (p : Int → Bool) : Int := if zfd (fun i => p ((n - 1 + (i - 1)) % N + 1)) N = 0 then 0 else (n - 1 + (zfd (fun i => p ((n - 1 + (i - 1)) % N + 1)) N - 1)) % N + 1
theorem grn_hit {N n i : Int} {p : Int → Bool} (h0 : 0 ≤ i) (h1 : i < N) (hp : p ((n - 1 + i) % N + 1) = true) (hm : ∀ j, 0 ≤ j → j < i → p ((n - 1 + j) % N + 1) = false) : grn N n p = (n - 1 + i) % N + 1 := by
  have e : zfd (fun i => p ((n - 1 + (i - 1)) % N + 1)) N = i + 1 := zfd_hit (by omega) (by omega) (by rw [show i + 1 - 1 = i by omega]; exact hp) (fun m a b => hm (m - 1) (by omega) (by omega))
  unfold grn
  rw [e, if_neg (by omega), show i + 1 - 1 = i by omega]
theorem grn_miss {N n : Int} {p : Int → Bool} (hm : ∀ j, 0 ≤ j → j < N → p ((n - 1 + j) % N + 1) = false) : grn N n p = 0 := by
  have e : zfd (fun i => p ((n - 1 + (i - 1)) % N + 1)) N = 0 := zfd_miss (fun m a b => hm (m - 1) (by omega) (by omega))
  unfold grn
  rw [e, if_pos rfl]
/-- of the steps from n on, the one that p holds of after x others; -1: none -/
def znt (p : Int → Bool) : Nat → Int → Int → Int
  | 0, _, _ => -1
  | k + 1, n, x => if p n then if x = 0 then n else znt p k (n + 1) (x - 1) else znt p k (n + 1) x
theorem znt_s {p : Int → Bool} {k n x N : Int} (h : n < N) (hk : k = N - n) : znt p k.toNat n x = if p n then if x = 0 then n else znt p (N - (n + 1)).toNat (n + 1) (x - 1) else znt p (N - (n + 1)).toNat (n + 1) x := by
  subst hk
  rw [show (N - n).toNat = (N - (n + 1)).toNat + 1 by omega, znt]
theorem znt_neg {p : Int → Bool} : ∀ (k : Nat) (n x : Int), x < 0 → znt p k n x = -1
  | 0, _, _, _ => rfl
  | k + 1, n, x, h => by
    unfold znt
    rw [if_neg (show ¬ x = 0 by omega), znt_neg k (n + 1) (x - 1) (by omega), znt_neg k (n + 1) x h]
    split <;> rfl
def gou (g : Nat → Int) (v x : Int) : Int := znt (fun k => decide (gV g k.toNat = v)) (gN g) 0 x
def grr (g : Nat → Int) (n x : Int) : Int := if 1 ≤ n ∧ n ≤ g 0 then znt (fun o => decide (gtg g o = n)) (g 0).toNat 1 x else -1
def grs (g : Nat → Int) (n : Int) : Int := zsn (fun o => zB (gtg g o = n)) (g 0).toNat
def glo (g : Nat → Int) (x : Int) : Int := znt (fun p => decide ((gpc g p.toNat = 123 ∨ gpc g p.toNat = 125) ∧ gmt g p.toNat = -1)) 1920 0 x
def gto (p : Int) : Int := 100 * (p / 24 + 1) + p % 24
def gcu (g : Nat → Int) : Int := if g 2 = -1 then 0 else gnu g (g 2)
theorem gRg_0 (g : Nat → Int) (k : Int) : gRg g k 0 = gF g k.toNat := by simp [gRg]
theorem gRg_1 (g : Nat → Int) (k : Int) : gRg g k 1 = gM g k.toNat := by simp [gRg]
theorem gRg_2 (g : Nat → Int) (k : Int) : gRg g k 2 = gO g k.toNat := by simp [gRg]
theorem gRg_3 (g : Nat → Int) (k : Int) : gRg g k 3 = gS g k.toNat := by simp [gRg]
theorem gRg_4 (g : Nat → Int) (k : Int) : gRg g k 4 = zB (gcl g (gF g k.toNat) = 1) := by simp [gRg]
theorem gRg_5 (g : Nat → Int) (k : Int) : gRg g k 5 = gV g k.toNat := by simp [gRg]
theorem gRg_6 (g : Nat → Int) (k : Int) : gRg g k 6 = gM g k.toNat - gF g k.toNat - 1 := by simp [gRg]
theorem gRg_7 (g : Nat → Int) {k w : Int} (h : 7 ≤ w) : gRg g k w = gA g k.toNat := by
  unfold gRg
  rw [if_neg (by omega), if_neg (by omega), if_neg (by omega), if_neg (by omega), if_neg (by omega), if_neg (by omega), if_neg (by omega)]
/-- what is asked of a line -/
def gLn (g : Nat → Int) (n w : Int) : Int := if w = 0 then gky g n else if w = 1 then gln g n else if w = 2 then 1 - ghH g (gcl g) n.toNat else if w = 3 then (if ghH g (gcl g) n.toNat = 0 then grow g (gcl g) n else 0) else if w = 4 then gdp g n else if w = 5 then gcl g n else if w = 6 then ghb (ghH g (gcl g)) (g 0) n else if w = 7 then gmo g (gky g n) else if w = 8 then zs0 (fun j => zB (gF g j = n)) (gN g) else gbl g n
theorem gLn_0 (g : Nat → Int) (n : Int) : gLn g n 0 = gky g n := by simp [gLn]
theorem gLn_1 (g : Nat → Int) (n : Int) : gLn g n 1 = gln g n := by simp [gLn]
theorem gLn_2 (g : Nat → Int) (n : Int) : gLn g n 2 = 1 - ghH g (gcl g) n.toNat := by simp [gLn]
theorem gLn_3 (g : Nat → Int) (n : Int) : gLn g n 3 = if ghH g (gcl g) n.toNat = 0 then grow g (gcl g) n else 0 := by simp [gLn]
theorem gLn_4 (g : Nat → Int) (n : Int) : gLn g n 4 = gdp g n := by simp [gLn]
theorem gLn_5 (g : Nat → Int) (n : Int) : gLn g n 5 = gcl g n := by simp [gLn]
theorem gLn_6 (g : Nat → Int) (n : Int) : gLn g n 6 = ghb (ghH g (gcl g)) (g 0) n := by simp [gLn]
theorem gLn_7 (g : Nat → Int) (n : Int) : gLn g n 7 = gmo g (gky g n) := by simp [gLn]
theorem gLn_8 (g : Nat → Int) (n : Int) : gLn g n 8 = zs0 (fun j => zB (gF g j = n)) (gN g) := by simp [gLn]
theorem gLn_9 (g : Nat → Int) {n w : Int} (h : 9 ≤ w) : gLn g n w = gbl g n := by
  unfold gLn
  rw [if_neg (by omega), if_neg (by omega), if_neg (by omega), if_neg (by omega), if_neg (by omega), if_neg (by omega), if_neg (by omega), if_neg (by omega), if_neg (by omega)]
/-- the counts that are asked for -/
def gCt (g : Nat → Int) (w : Int) : Int := if w = 0 then g 0 else if w = 1 then grow g (gcl g) (g 0) else if w = 2 then gN g else if w = 3 then gfm g else if w = 4 then gmm9 g else if w = 5 then glm g else if w = 6 then grm g else if w = 7 then gls g else if w = 8 then g 3 else if w = 9 then g 4 else g 1
theorem gCt_0 (g : Nat → Int) : gCt g 0 = g 0 := by simp [gCt]
theorem gCt_1 (g : Nat → Int) : gCt g 1 = grow g (gcl g) (g 0) := by simp [gCt]
theorem gCt_2 (g : Nat → Int) : gCt g 2 = gN g := by simp [gCt]
theorem gCt_3 (g : Nat → Int) : gCt g 3 = gfm g := by simp [gCt]
theorem gCt_4 (g : Nat → Int) : gCt g 4 = gmm9 g := by simp [gCt]
theorem gCt_5 (g : Nat → Int) : gCt g 5 = glm g := by simp [gCt]
theorem gCt_6 (g : Nat → Int) : gCt g 6 = grm g := by simp [gCt]
theorem gCt_7 (g : Nat → Int) : gCt g 7 = gls g := by simp [gCt]
theorem gCt_8 (g : Nat → Int) : gCt g 8 = g 3 := by simp [gCt]
theorem gCt_9 (g : Nat → Int) : gCt g 9 = g 4 := by simp [gCt]
theorem gCt_10 (g : Nat → Int) {w : Int} (h : 10 ≤ w) : gCt g w = g 1 := by
  unfold gCt
  rw [if_neg (by omega), if_neg (by omega), if_neg (by omega), if_neg (by omega), if_neg (by omega), if_neg (by omega), if_neg (by omega), if_neg (by omega), if_neg (by omega), if_neg (by omega)]
theorem zB_and (p q : Prop) [Decidable p] [Decidable q] : zB (zB p = 1 ∧ zB q = 1) = zB (p ∧ q) := by
  by_cases hp : p <;> by_cases hq : q <;> simp [zB, hp, hq]
theorem zI_tI (x : Int32) : x = zI x.toInt := (Int32.ofInt_toInt x).symm
/-- the first of the marked lines on the way from n in steps of d -/
def gn0 (g : Nat → Int) (n d : Int) : Int := if zfd (fun i => decide (gmo g (gky g ((n - 1 + i * d) % g 0 + 1)) ≠ 0)) (g 0) = 0 then 0 else (n - 1 + zfd (fun i => decide (gmo g (gky g ((n - 1 + i * d) % g 0 + 1)) ≠ 0)) (g 0) * d) % g 0 + 1
def gnm (g : Nat → Int) (n d : Int) : Int := gn0 g n d
theorem gnm_hit {g : Nat → Int} {n d i : Int} (h0 : 1 ≤ i) (h1 : i ≤ g 0) (hp : gmo g (gky g ((n - 1 + i * d) % g 0 + 1)) ≠ 0) (hm : ∀ j, 1 ≤ j → j < i → gmo g (gky g ((n - 1 + j * d) % g 0 + 1)) = 0) : gn0 g n d = (n - 1 + i * d) % g 0 + 1 := by
  have e : zfd (fun i => decide (gmo g (gky g ((n - 1 + i * d) % g 0 + 1)) ≠ 0)) (g 0) = i := zfd_hit h0 h1 (decide_eq_true hp) (fun m a b => decide_eq_false (fun q => q (hm m a b)))
  unfold gn0
  rw [e, if_neg (by omega)]
theorem gnm_miss {g : Nat → Int} {n d : Int} (hm : ∀ j, 1 ≤ j → j ≤ g 0 → gmo g (gky g ((n - 1 + j * d) % g 0 + 1)) = 0) : gn0 g n d = 0 := by
  have e : zfd (fun i => decide (gmo g (gky g ((n - 1 + i * d) % g 0 + 1)) ≠ 0)) (g 0) = 0 := zfd_miss (fun m a b => decide_eq_false (fun q => q (hm m a b)))
  unfold gn0
  rw [e, if_pos rfl]
theorem glc_i2 (g : Nat → Int) : ∀ p : Nat, 0 ≤ glc g p ∧ glc g p + (gbs g p).length ≤ p
  | 0 => by unfold glc gbs; exact ⟨by omega, by simp⟩
  | p + 1 => by
    have := glc_i2 g p
    rw [show glc g (p + 1) = if gpc g p = 125 ∧ gbs g p = [] then glc g p + 1 else glc g p from rfl, show gbs g (p + 1) = if gpc g p = 123 then p :: gbs g p else if gpc g p = 125 then (gbs g p).tail else gbs g p from rfl]
    by_cases h1 : gpc g p = 123
    · rw [if_neg (fun q => by omega), if_pos h1, List.length_cons]
      omega
    · rw [if_neg h1]
      by_cases h2 : gpc g p = 125
      · rw [if_pos h2, List.length_tail]
        cases hb : gbs g p with
        | nil => rw [hb] at this; simp [h2] at this ⊢; omega
        | cons a l => rw [hb] at this; simp [h2] at this ⊢; omega
      · rw [if_neg h2, if_neg (fun q => h2 q.1)]
        omega
theorem gls_in (g : Nat → Int) : 0 ≤ gls g ∧ gls g ≤ 1920 := by
  have := glc_i2 g 1920
  unfold gls
  omega
theorem znt_skip {p : Int → Bool} {N a b x : Int} (h1 : a ≤ b) (h2 : b ≤ N) (hm : ∀ m, a ≤ m → m < b → p m = false) : znt p (N - a).toNat a x = znt p (N - b).toNat b x := by
  obtain ⟨k, rfl⟩ : ∃ k : Nat, b = a + k := ⟨(b - a).toNat, by omega⟩
  clear h1
  induction k generalizing a with
  | zero => rw [show a + ((0 : Nat) : Int) = a by omega]
  | succ k ih =>
    rw [znt_s (N := N) (by omega) rfl, hm a (by omega) (by omega)]
    have := ih (a := a + 1) (by omega) (fun m q r => hm m (by omega) (by omega))
    rw [if_neg (by decide), this, show a + 1 + (k : Int) = a + ((k + 1 : Nat) : Int) by omega]
theorem znt_none {p : Int → Bool} {N a x : Int} (h1 : a ≤ N) (hm : ∀ m, a ≤ m → m < N → p m = false) : znt p (N - a).toNat a x = -1 := by
  rw [znt_skip h1 (Int.le_refl N) hm, show (N - N).toNat = 0 by omega]
  rfl
