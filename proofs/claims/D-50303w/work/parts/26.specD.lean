/-! THE PLAIN SIDE: what is asked of a page that is laid out -/
def zCo (σ τ : zS) : Prop := (∀ k, k ≠ 0 → k ≠ 22 → k ≠ 23 → τ.1 k = σ.1 k) ∧ ∀ k, zScp k = false → τ.2 k = σ.2 k
theorem zCo.refl (σ : zS) : zCo σ σ := ⟨fun _ _ _ _ => rfl, fun _ _ => rfl⟩
theorem zCo.tr {σ τ ρ : zS} (h : zCo σ τ) (h2 : zSm τ ρ) : zCo σ ρ := ⟨fun k a b c => (h2.1 k b c).trans (h.1 k a b c), fun k a => (h2.2 k (zScp_f a)).trans (h.2 k a)⟩
theorem zCo.trans {σ τ ρ : zS} (h : zCo σ τ) (h2 : zCo τ ρ) : zCo σ ρ := ⟨fun k a b c => (h2.1 k a b c).trans (h.1 k a b c), fun k a => (h2.2 k a).trans (h.2 k a)⟩
theorem zCo.uA {σ τ : zS} (h : zCo σ τ) {k : Nat} (hk : zScp k = true) (f : Nat → Int) : zCo σ (zuA τ k f) := ⟨h.1, fun j hj => by
  show zset τ.2 k f j = _
  rw [zset_n (fun z => by rw [z, hk] at hj; cases hj)]
  exact h.2 j hj⟩
theorem zCo.uS {σ τ : zS} (h : zCo σ τ) {k : Nat} (hk : (k == 0 || k == 22 || k == 23) = true) (v : Int) : zCo σ (zuS τ k v) := ⟨fun j a b c => by
  show zset τ.1 k v j = _
  rw [zset_n (fun z => by subst z; simp [a, b, c] at hk)]
  exact h.1 j a b c, h.2⟩
theorem zCo.cS {σ τ : zS} (h : zCo σ τ) (k : Nat) (v : Int) : zCo (zuS σ k v) (zuS τ k v) := ⟨fun j a b c => by
  show zset τ.1 k v j = zset σ.1 k v j
  by_cases e : j = k
  · rw [e, zset_s, zset_s]
  · rw [zset_n e, zset_n e]; exact h.1 j a b c, h.2⟩
theorem zCo.cA {σ τ : zS} (h : zCo σ τ) (k : Nat) (f : Nat → Int) : zCo (zuA σ k f) (zuA τ k f) := ⟨h.1, fun j hj => by
  show zset τ.2 k f j = zset σ.2 k f j
  by_cases e : j = k
  · rw [e, zset_s, zset_s]
  · rw [zset_n e, zset_n e]; exact h.2 j hj⟩
theorem zCo.on1 {σ τ ρ : zS} (h : zCo σ τ) {k : Nat} {F : Nat → Int} (hA : ∀ j, j ≠ k → ρ.2 j = τ.2 j) (hB : ∀ j, ρ.1 j = τ.1 j) (hC : ρ.2 k = F) : zCo (zuA σ k F) ρ := ⟨fun j a b c => (hB j).trans (h.1 j a b c), fun j hj => by
  show ρ.2 j = zset σ.2 k F j
  by_cases e : j = k
  · rw [e, zset_s]; exact hC
  · rw [zset_n e, hA j e]; exact h.2 j hj⟩
theorem zCo.onS {σ τ ρ : zS} (h : zCo σ τ) {k : Nat} (hk : zScp k = true) (hA : ∀ j, j ≠ k → ρ.2 j = τ.2 j) (hB : ∀ j, ρ.1 j = τ.1 j) : zCo σ ρ := ⟨fun j a b c => (hB j).trans (h.1 j a b c), fun j hj => by
  rw [hA j (fun z => by rw [z, hk] at hj; cases hj)]
  exact h.2 j hj⟩
/-- a core that says the same -/
theorem zCo.eq {σ σ' τ : zS} (h : zCo σ τ) (e1 : ∀ k, σ.1 k = σ'.1 k) (e2 : ∀ k, zScp k = false → σ.2 k = σ'.2 k) : zCo σ' τ := ⟨fun k a b c => (h.1 k a b c).trans (e1 k), fun k a => (h.2 k a).trans (e2 k a)⟩
/-- a fold over 0..N-1 -/
def zfo (f : Nat → Int → Int) (i : Int) : Nat → Int
  | 0 => i
  | k + 1 => f k (zfo f i k)
theorem zfo_p (f : Nat → Int → Int) (i : Int) {n : Int} (h : 1 ≤ n) : zfo f i n.toNat = f (n - 1).toNat (zfo f i (n - 1).toNat) := by
  rw [show n.toNat = (n - 1).toNat + 1 by omega]
  rfl
theorem zfo_s (f : Nat → Int → Int) (i : Int) {n : Int} (h : 0 ≤ n) : zfo f i (n + 1).toNat = f n.toNat (zfo f i n.toNat) := by
  rw [show (n + 1).toNat = n.toNat + 1 by omega]
  rfl
/-- the hidden ones as a row of numbers -/
def ghH (g : Nat → Int) (c : Int → Int) : Nat → Int := fun j => ghd g c j
theorem ghH_01 (g : Nat → Int) (c : Int → Int) (j : Nat) : ghH g c j = 0 ∨ ghH g c j = 1 := by
  unfold ghH ghd
  exact ghk_01 g c (gN g) _
theorem zHd_at {g : Nat → Int} {c : Int → Int} {τ : zS} (h : zHd g c τ) {n : Int} (h0 : 0 ≤ n) (h1 : n ≤ g 0 + 1) : τ.2 20 n.toNat = gdp g n ∧ τ.2 21 n.toNat = ghH g c n.toNat := by
  refine ⟨(h n h0 h1).1, ?_⟩
  rw [(h n h0 h1).2]
  unfold ghH ghd
  rw [Int.toNat_of_nonneg h0]
theorem zsn_congr {f f' : Int → Int} : ∀ k : Nat, (∀ n : Int, 1 ≤ n → n ≤ k → f n = f' n) → zsn f k = zsn f' k
  | 0, _ => rfl
  | k + 1, h => by rw [zsn, zsn, zsn_congr k (fun n a b => h n a (by omega)), h (k + 1) (by omega) (by omega)]
/-- shown ones among the first N -/
def grow (g : Nat → Int) (c : Int → Int) (N : Int) : Int := gshn (ghH g c) N
theorem gshn_of {g : Nat → Int} {c : Int → Int} {τ : zS} (h : zHd g c τ) {N : Int} (hN : N ≤ g 0 + 1) : gshn (τ.2 21) N = grow g c N := by
  unfold grow gshn zsm9
  refine zsn_congr _ (fun n a b => ?_)
  rw [(zHd_at h (n := n) (by omega) (by omega)).2]
theorem gshn_in {H : Nat → Int} (hH : ∀ j, H j = 0 ∨ H j = 1) : ∀ k : Nat, 0 ≤ zsn (fun n => 1 - H n.toNat) k ∧ zsn (fun n => 1 - H n.toNat) k ≤ k
  | 0 => ⟨Int.le_refl _, Int.le_refl _⟩
  | k + 1 => by
    have h := gshn_in hH k
    have := hH ((k : Int) + 1).toNat
    rw [zsn]
    constructor <;> omega
theorem grow_in (g : Nat → Int) (c : Int → Int) {N : Int} (h : 0 ≤ N) : 0 ≤ grow g c N ∧ grow g c N ≤ N := by
  have := gshn_in (ghH_01 g c) N.toNat
  unfold grow gshn zsm9
  omega
theorem grow_p (g : Nat → Int) (c : Int → Int) {n : Int} (h : 1 ≤ n) : grow g c n = grow g c (n - 1) + (1 - ghH g c n.toNat) := gshn_p _ h
theorem ghb_of {g : Nat → Int} {c : Int → Int} {τ : zS} (h : zHd g c τ) {m : Int} (h0 : 1 ≤ m) (h1 : m ≤ g 0) : ghb (τ.2 21) (g 0) m = ghb (ghH g c) (g 0) m := by
  have key : ∀ (k : Nat) (n : Int), 0 ≤ n → n + k ≤ g 0 + 1 → zrun (fun j => decide (τ.2 21 j.toNat = 1)) k n = zrun (fun j => decide (ghH g c j.toNat = 1)) k n := by
    intro k
    induction k with
    | zero => intro n _ _; rw [zrun, zrun]
    | succ k ih =>
      intro n a b
      unfold zrun
      rw [(zHd_at h a (by omega)).2, ih (n + 1) (by omega) (by omega)]
  unfold ghb
  rw [(zHd_at h (n := m) (by omega) (by omega)).2, key _ _ (by omega) (by omega)]
theorem gbgn_of {g : Nat → Int} {τ : zS} (h : zRt g τ) (n : Int) : ∀ k : Nat, k ≤ gN g → zs0 (fun j => zB (τ.2 14 j = n)) k = zs0 (fun j => zB (gF g j = n)) k
  | 0, _ => rfl
  | k + 1, hk => by rw [zs0, zs0, gbgn_of h n k (by omega), (h.2 k (by omega)).1]
/-- the widest shown line; the deepest; the innermost region around a line; the outermost folded one -/
def gwidF (g : Nat → Int) (j : Nat) (b : Int) : Int := if ghH g (gcl g) (j + 1) = 0 ∧ (b = 0 ∨ gln g b < gln g ((j : Int) + 1)) then (j : Int) + 1 else b
def gwid (g : Nat → Int) : Int := zfo (gwidF g) 0 (g 0).toNat
def gdeeF (g : Nat → Int) (j : Nat) (b : Int) : Int := if b = 0 ∨ gdp g b < gdp g ((j : Int) + 1) then (j : Int) + 1 else b
def gdee (g : Nat → Int) : Int := zfo (gdeeF g) 0 (g 0).toNat
def ginnF (g : Nat → Int) (n : Int) (j : Nat) (b : Int) : Int := if (gF g j < n ∧ n < gM g j) ∧ (b = -1 ∨ gV g b.toNat < gV g j) then (j : Int) else b
def ginn (g : Nat → Int) (n : Int) : Int := zfo (ginnF g n) (-1) (gN g)
def gouF (g : Nat → Int) (n : Int) (j : Nat) (b : Int) : Int := if (gF g j < n ∧ n < gM g j) ∧ gcl g (gF g j) = 1 ∧ (b = -1 ∨ gV g j < gV g b.toNat) then (j : Int) else b
def gout (g : Nat → Int) (n : Int) : Int := zfo (gouF g n) (-1) (gN g)
/-- the line of a row -/
def gli (g : Nat → Int) (c : Int → Int) (m : Int) : Int := zfd (fun n => decide (ghH g c n.toNat = 0 ∧ m ≤ grow g c n)) (g 0)
