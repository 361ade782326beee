/-! THE PLAIN SIDE: changes of a page -/
def gshi (A : Nat → Int) (i : Int) : Nat → Int := fun j => if (j : Int) < i then A (j + 2195) else A j
theorem gshi_0 (A : Nat → Int) : gshi A 0 = A := funext fun j => if_neg (by omega)
theorem gshi_s (A : Nat → Int) {i : Int} (h : 0 ≤ i) : zset (gshi A i) i.toNat (A (i.toNat + 2195)) = gshi A (i + 1) := funext fun j => by
  unfold gshi
  by_cases e : j = i.toNat
  · rw [e, zset_s, if_pos (by omega)]
  · rw [zset_n e]
    by_cases q : (j : Int) < i
    · rw [if_pos q, if_pos (by omega)]
    · rw [if_neg q, if_neg (by omega)]
/-- a page put on the undo pages -/
def grem (A g : Nat → Int) (u : Int) : Nat → Int := if u = 8 then gcp g 0 (gshi A 15365) (7 * 2195) 2195 else gcp g 0 A (u * 2195) 2195
def gret (u : Int) : Int := if u = 8 then 8 else u + 1
/-- a line's text out of a buffer -/
def gtxt (g : Nat → Int) (n : Int) (b : Nat → Int) (m : Int) : Nat → Int := zset (gcp b 0 g (35 + 27 * (n - 1) + 3) m) (35 + 27 * (n - 1) + 2).toNat m
/-- lines in another order -/
def gblk (f : Int) (k : Nat) : List Int := (List.range k).map (fun i : Nat => f + (i : Int))
def gord (N f t b : Int) : Nat → List Int
  | 0 => []
  | k + 1 => gord N f t b k ++ (if ((k : Int) + 1) = b then gblk f (t + 1 - f).toNat else []) ++ (if ((k : Int) + 1) ≤ N ∧ ¬ (f ≤ (k : Int) + 1 ∧ (k : Int) + 1 ≤ t) then [(k : Int) + 1] else [])
theorem gblk_s (f : Int) (k : Nat) : gblk f (k + 1) = gblk f k ++ [f + (k : Int)] := by
  unfold gblk
  rw [List.range_succ, List.map_append]
  rfl
/-- the lines arranged: moved's cells, so many; now's cells, so many -/
def gmvd (g o m : Nat → Int) (i : Int) : Nat → Int := fun j => if (j : Int) < i then g (35 + 27 * (o (j / 27) - 1) + ((j % 27 : Nat) : Int)).toNat else m j
def garr (g o : Nat → Int) (i : Int) : Nat → Int := fun j => if 35 ≤ (j : Int) ∧ (j : Int) < 35 + i then g (35 + 27 * (o ((j - 35) / 27) - 1) + (((j - 35) % 27 : Nat) : Int)).toNat else g j
theorem gmvd_0 (g o m : Nat → Int) : gmvd g o m 0 = m := funext fun j => if_neg (by omega)
theorem garr_0 (g o : Nat → Int) : garr g o 0 = g := funext fun j => if_neg (by omega)
theorem gmvd_s (g o m : Nat → Int) {x y : Int} (hx : 0 ≤ x) (hy : 0 ≤ y) (hy2 : y < 27) : zset (gmvd g o m (27 * x + y)) (27 * x + y).toNat (g (35 + 27 * (o x.toNat - 1) + y).toNat) = gmvd g o m (27 * x + (y + 1)) := funext fun j => by
  unfold gmvd
  by_cases e : j = (27 * x + y).toNat
  · rw [e, zset_s, if_pos (by omega), show (27 * x + y).toNat / 27 = x.toNat by omega, show (((27 * x + y).toNat % 27 : Nat) : Int) = y by omega]
  · rw [zset_n e]
    by_cases q : (j : Int) < 27 * x + y
    · rw [if_pos q, if_pos (by omega)]
    · rw [if_neg q, if_neg (by omega)]
theorem garr_s (g o m : Nat → Int) {i N : Int} (h : 0 ≤ i) (hN : i < N) : zset (garr g o i) (35 + i).toNat (gmvd g o m N i.toNat) = garr g o (i + 1) := funext fun j => by
  unfold garr
  by_cases e : j = (35 + i).toNat
  · rw [e, zset_s, if_pos (by omega)]
    unfold gmvd
    rw [if_pos (by omega), show (35 + i).toNat - 35 = i.toNat by omega]
  · rw [zset_n e]
    by_cases q : 35 ≤ (j : Int) ∧ (j : Int) < 35 + i
    · rw [if_pos q, if_pos (by omega)]
    · rw [if_neg q, if_neg (by omega)]
/-- lines f..t go out: where a key goes -/
def ggf (g : Nat → Int) (k f t : Int) : Int := if k = -1 ∨ ¬ (f ≤ gnu g k ∧ gnu g k ≤ t) then k else if t < g 0 then gky g (t + 1) else if 1 < f then gky g (f - 1) else -1
def gtk1 (g : Nat → Int) (f t i : Int) : Nat → Int := fun j => if 5 ≤ (j : Int) ∧ (j : Int) < 5 + i then ggf g (g j) f t else g j
theorem gtk1_0 (g : Nat → Int) (f t : Int) : gtk1 g f t 0 = g := funext fun j => if_neg (by omega)
theorem gtk1_s (g : Nat → Int) (f t : Int) {i : Int} (h : 0 ≤ i) : zset (gtk1 g f t i) (5 + i).toNat (ggf g (g (5 + i).toNat) f t) = gtk1 g f t (i + 1) := funext fun j => by
  unfold gtk1
  by_cases e : j = (5 + i).toNat
  · rw [e, zset_s, if_pos (by omega)]
  · rw [zset_n e]
    by_cases q : 5 ≤ (j : Int) ∧ (j : Int) < 5 + i
    · rw [if_pos q, if_pos (by omega)]
    · rw [if_neg q, if_neg (by omega)]
/-- the kept ones of the first k at p -/
def gkp (g q : Nat → Int) (p f t : Int) : Nat → List Int
  | 0 => []
  | k + 1 => if f ≤ gnu g (q (p + k).toNat) ∧ gnu g (q (p + k).toNat) ≤ t then gkp g q p f t k else gkp g q p f t k ++ [q (p + k).toNat]
theorem gkp_len (g q : Nat → Int) (p f t : Int) : ∀ k : Nat, (gkp g q p f t k).length ≤ k
  | 0 => Nat.le_refl _
  | k + 1 => by
    have := gkp_len g q p f t k
    unfold gkp
    split
    · omega
    · rw [List.length_append]; simp; omega
def gpt (p : Nat) (l : List Int) (f : Nat → Int) : Nat → Int := fun j => if h : p ≤ j ∧ j < p + l.length then l[j - p]'(by omega) else f j
theorem gpt_nil (p : Nat) (f : Nat → Int) : gpt p [] f = f := funext fun j => dif_neg (by simp)
theorem gpt_s (p : Nat) (l : List Int) (f : Nat → Int) (c : Int) : zset (gpt p l f) (p + l.length) c = gpt p (l ++ [c]) f := funext fun j => by
  unfold gpt
  by_cases e : j = p + l.length
  · subst e
    rw [zset_s, dif_pos (by simp)]
    simp
  · rw [zset_n e]
    by_cases q : p ≤ j ∧ j < p + l.length
    · rw [dif_pos q, dif_pos (by simp; omega), List.getElem_append_left (by omega)]
    · rw [dif_neg q, dif_neg (by simp; omega)]
theorem gpt_out {p : Nat} {l : List Int} {f : Nat → Int} {j : Nat} (h : j < p ∨ p + l.length ≤ j) : gpt p l f j = f j := dif_neg (by omega)
def gtof (g q : Nat → Int) (w p : Nat) (f t : Int) : Nat → Int := zset (gpt p (gkp g q p f t (q w).toNat) q) w (gkp g q p f t (q w).toNat).length
/-- the lines behind t come forward by m -/
def gfw (g : Nat → Int) (p m i : Int) : Nat → Int := fun j => if p - 27 * m ≤ (j : Int) ∧ (j : Int) < i - 27 * m then g (j + 27 * m.toNat) else g j
theorem gfw_0 (g : Nat → Int) (p m : Int) : gfw g p m p = g := funext fun j => if_neg (by omega)
theorem gfw_s (g : Nat → Int) {p m i : Int} (hm : 1 ≤ m) (h0 : 0 ≤ p - 27 * m) (h : p ≤ i) : zset (gfw g p m i) (i - 27 * m).toNat (g i.toNat) = gfw g p m (i + 1) := funext fun j => by
  unfold gfw
  by_cases e : j = (i - 27 * m).toNat
  · rw [e, zset_s, if_pos (by omega), show (i - 27 * m).toNat + 27 * m.toNat = i.toNat by omega]
  · rw [zset_n e]
    by_cases q : p - 27 * m ≤ (j : Int) ∧ (j : Int) < i - 27 * m
    · rw [if_pos q, if_pos (by omega)]
    · rw [if_neg q, if_neg (by omega)]
def gto0 (g : Nat → Int) (f t : Int) : Nat → Int := zset (gtk1 g f t 10) 2 (ggf g (g 2) f t)
def gtoA (g : Nat → Int) (f t : Int) : Nat → Int := gtof (gto0 g f t) (gto0 g f t) 3 15 f t
def gto1 (g : Nat → Int) (f t : Int) : Nat → Int := gtof (gtoA g f t) (gtoA g f t) 4 25 f t
def gtak (g : Nat → Int) (f t : Int) : Nat → Int := zset (gfw (gto1 g f t) (35 + 27 * t) (t - f + 1) (35 + 27 * g 0)) 0 (g 0 - (t - f + 1))
/-- rows with the same lines -/
def zln (g q : Nat → Int) : Prop := q 0 = g 0 ∧ ∀ j : Nat, 35 ≤ j → q j = g j
theorem zln.ky {g q : Nat → Int} (h : zln g q) {n : Int} (hn : 1 ≤ n) : gky q n = gky g n := h.2 _ (by omega)
theorem zln.nu {g q : Nat → Int} (h : zln g q) (k : Int) : gnu q k = gnu g k := by
  unfold gnu
  rw [h.1]
  unfold zfd
  have key : ∀ (m : Nat) (n : Int), 1 ≤ n → zff (fun n => decide (gky q n = k)) m n = zff (fun n => decide (gky g n = k)) m n := by
    intro m
    induction m with
    | zero => intro n _; rfl
    | succ m ih => intro n hn; unfold zff; rw [h.ky hn, ih (n + 1) (by omega)]
  exact key _ 1 (by omega)
theorem zln.refl (g : Nat → Int) : zln g g := ⟨rfl, fun _ _ => rfl⟩
theorem zln.set {g q : Nat → Int} (h : zln g q) {j : Nat} (h0 : j ≠ 0) (h1 : j < 35) (v : Int) : zln g (zset q j v) := ⟨(zset_n (by omega)).trans h.1, fun i hi => (zset_n (by omega)).trans (h.2 i hi)⟩
theorem zln.gf {g q : Nat → Int} (h : zln g q) (k : Int) {f t : Int} (h1 : 1 ≤ f) (h2 : f ≤ t) : ggf q k f t = ggf g k f t := by
  unfold ggf
  rw [h.nu, h.1, h.ky (n := t + 1) (by omega)]
  by_cases e : 1 < f
  · rw [h.ky (n := f - 1) (by omega)]
  · rw [if_neg e, if_neg e]
theorem zln.tk1 (g : Nat → Int) (f t : Int) {i : Int} (h : i ≤ 10) : zln g (gtk1 g f t i) := ⟨if_neg (by omega), fun j hj => if_neg (by omega)⟩
theorem zln.pt {g q : Nat → Int} (h : zln g q) {p : Nat} {l : List Int} (h1 : 5 ≤ p) (h2 : p + l.length ≤ 35) : zln g (gpt p l q) := ⟨(gpt_out (by omega)).trans h.1, fun j hj => (gpt_out (by omega)).trans (h.2 j hj)⟩
theorem zln.tof {g q : Nat → Int} (h : zln g q) {w p : Nat} {f t : Int} (h1 : 5 ≤ p) (h2 : p + (q w).toNat ≤ 35) (h3 : w ≠ 0) (h4 : w < 35) : zln g (gtof g q w p f t) := by
  have := gkp_len g q p f t (q w).toNat
  exact (h.pt h1 (by omega)).set h3 h4 _
theorem zrem_eq (σ : zS) (a b : Nat → Int) (c d : Int) : zuS (zuA (zuS (zuA σ 3 a) 6 c) 3 b) 6 d = zuS (zuA σ 3 b) 6 d := by
  have e : zuA (zuS (zuA σ 3 a) 6 c) 3 b = zuS (zuA (zuA σ 3 a) 3 b) 6 c := rfl
  rw [e, zuA_uA, zuS_uS]
theorem gblk_len (f : Int) (k : Nat) : (gblk f k).length = k := by
  unfold gblk
  rw [List.length_map, List.length_range]
theorem gnu_in (g : Nat → Int) (k : Int) : 0 ≤ gnu g k ∧ (gnu g k ≤ g 0 ∨ gnu g k = 0) := by
  rcases zfd_cases (fun n => decide (gky g n = k)) (g 0) with ⟨h, -⟩ | ⟨h1, h2, -⟩
  · unfold gnu; rw [h]; omega
  · unfold gnu; omega
theorem gord_p (N f t b : Int) {n : Int} (h : 1 ≤ n) : gord N f t b n.toNat = gord N f t b (n - 1).toNat ++ (if n = b then gblk f (t + 1 - f).toNat else []) ++ (if n ≤ N ∧ ¬ (f ≤ n ∧ n ≤ t) then [n] else []) := by
  rw [show n.toNat = (n - 1).toNat + 1 by omega, gord]
  rw [show (((n - 1).toNat : Nat) : Int) + 1 = n by omega]
theorem gord_len {N f t b : Int} (h1 : 1 ≤ f) (h2 : f ≤ t) (h3 : t ≤ N) (h4 : 1 ≤ b) : ∀ k : Nat, ((gord N f t b k).length : Int) = min (k : Int) (f - 1) + max 0 (min (k : Int) N - t) + (if b ≤ k then t + 1 - f else 0)
  | 0 => by
    rw [if_neg (by omega)]
    show (0 : Int) = _
    omega
  | k + 1 => by
    have ih := gord_len h1 h2 h3 h4 k
    rw [gord, List.length_append, List.length_append]
    have e1 : (((if ((k : Int) + 1) = b then gblk f (t + 1 - f).toNat else []).length : Nat) : Int) = if (k : Int) + 1 = b then t + 1 - f else 0 := by
      split
      · rw [gblk_len]; omega
      · rfl
    have e2 : (((if ((k : Int) + 1) ≤ N ∧ ¬ (f ≤ (k : Int) + 1 ∧ (k : Int) + 1 ≤ t) then [(k : Int) + 1] else []).length : Nat) : Int) = if ((k : Int) + 1) ≤ N ∧ ¬ (f ≤ (k : Int) + 1 ∧ (k : Int) + 1 ≤ t) then 1 else 0 := by
      split <;> rfl
    rw [Int.natCast_add, Int.natCast_add, e1, e2, ih]
    split <;> split <;> split <;> split <;> omega
theorem gblk_mem {f x : Int} {k : Nat} (h : x ∈ gblk f k) : f ≤ x ∧ x < f + k := by
  unfold gblk at h
  obtain ⟨i, hi, rfl⟩ := List.mem_map.1 h
  have := List.mem_range.1 hi
  omega
theorem gord_mem {N f t b x : Int} (h1 : 1 ≤ f) (h3 : t ≤ N) : ∀ k : Nat, x ∈ gord N f t b k → 1 ≤ x ∧ x ≤ N
  | 0, h => absurd h (by unfold gord; simp)
  | k + 1, h => by
    rw [gord, List.mem_append, List.mem_append] at h
    rcases h with (h | h) | h
    · exact gord_mem h1 h3 k h
    · split at h
      · have := gblk_mem h; omega
      · cases h
    · split at h
      · rw [List.mem_singleton] at h; omega
      · cases h
def ggo (N f t b : Int) (o : Nat → Int) : Nat → Int := gput (gord N f t b (N + 1).toNat) (gput (gblk 1 N.toNat) o)
theorem gord_ok {N : Int} (f t b : Int) (h1 : 1 ≤ f) (h2 : f ≤ t) (h3 : t ≤ N) (h4 : 1 ≤ b) (h5 : b ≤ N + 1) (h6 : N ≤ 80) (o : Nat → Int) : ∀ j : Nat, (j : Int) < N → 1 ≤ ggo N f t b o j ∧ ggo N f t b o j ≤ 80 := fun j hj => by
  have hl := gord_len (N := N) (b := b) h1 h2 h3 h4 (N + 1).toNat
  rw [if_pos (by omega)] at hl
  unfold ggo gput
  have hj2 : j < (gord N f t b (N + 1).toNat).length := by omega
  rw [dif_pos hj2]
  have := gord_mem (N := N) (f := f) (t := t) (b := b) h1 h3 _ (List.getElem_mem hj2)
  omega
/-- the last line goes to place b -/
def gset1 (g : Nat → Int) : Nat → Int := if g 0 = 1 then zset g 2 (gky g 1) else g
def gsetG (g : Nat → Int) (b : Int) (o : Nat → Int) : Nat → Int := if b < g 0 then garr (gset1 g) (ggo (g 0) (g 0) (g 0) b o) (27 * g 0) else gset1 g
theorem gset1_0 (g : Nat → Int) : gset1 g 0 = g 0 := by
  unfold gset1
  split
  · exact zset_n (by decide)
  · rfl
theorem zCo_go (σ : zS) (o m q F : Nat → Int) : zCo (zuA σ 1 F) (zuA (zuA (zuA (zuA σ 1 q) 27 o) 28 m) 1 F) := by
  refine ⟨fun _ _ _ _ => rfl, fun k hk => ?_⟩
  show zset (zset (zset (zset σ.2 1 q) 27 o) 28 m) 1 F k = zset σ.2 1 F k
  by_cases e : k = 1
  · rw [e, zset_s, zset_s]
  · rw [zset_n e, zset_n e, zset_n (fun z => by rw [z] at hk; cases hk), zset_n (fun z => by rw [z] at hk; cases hk), zset_n e]
theorem zln.trans {g q p : Nat → Int} (h : zln g q) (h2 : zln q p) : zln g p := ⟨h2.1.trans h.1, fun j hj => (h2.2 j hj).trans (h.2 j hj)⟩
theorem gto0_ln (g : Nat → Int) (f t : Int) : zln g (gto0 g f t) := (zln.tk1 g f t (Int.le_refl 10)).set (by decide) (by decide) _
theorem gto0_3 (g : Nat → Int) (f t : Int) : gto0 g f t 3 = g 3 ∧ gto0 g f t 4 = g 4 := by
  unfold gto0 gtk1
  refine ⟨?_, ?_⟩
  · rw [zset_n (by decide)]; exact if_neg (by omega)
  · rw [zset_n (by decide)]; exact if_neg (by omega)
theorem gtof_at {g q : Nat → Int} {w p : Nat} {f t : Int} {j : Nat} (h : j ≠ w) (h2 : j < p ∨ p + (q w).toNat ≤ j) : gtof g q w p f t j = q j := by
  have := gkp_len g q p f t (q w).toNat
  unfold gtof
  rw [zset_n h, gpt_out (by omega)]
theorem gtoA_ln (g : Nat → Int) (f t : Int) (h0 : 0 ≤ g 3) (h : g 3 ≤ 10) : zln g (gtoA g f t) := by
  have := gto0_3 g f t
  exact (gto0_ln g f t).trans ((zln.refl _).tof (by omega) (by omega) (by omega) (by omega))
theorem gtoA_4 (g : Nat → Int) (f t : Int) (h0 : 0 ≤ g 3) (h : g 3 ≤ 10) : gtoA g f t 4 = g 4 := by
  have := gto0_3 g f t
  exact (gtof_at (by decide) (by omega)).trans this.2
theorem gto1_ln (g : Nat → Int) (f t : Int) (h0 : 0 ≤ g 3) (h : g 3 ≤ 10) (h1 : 0 ≤ g 4) (h2 : g 4 ≤ 10) : zln g (gto1 g f t) := by
  have e := gtoA_4 g f t h0 h
  exact (gtoA_ln g f t h0 h).trans ((zln.refl _).tof (by omega) (by omega) (by omega) (by omega))
theorem gfw_lo {g : Nat → Int} {p m i : Int} {j : Nat} (h : (j : Int) < p - 27 * m) : gfw g p m i j = g j := if_neg (by omega)
theorem gfw_hi {g : Nat → Int} {p m i : Int} {j : Nat} (h : i - 27 * m ≤ j) : gfw g p m i j = g j := if_neg (by omega)
/-- a text may be a line's -/
abbrev gTx (b : Nat → Int) (m : Int) : Prop := m ≤ 24 ∧ ∀ j : Nat, j < m.toNat → ((32 ≤ b j ∧ b j ≤ 126) ∧ b j ≠ 124)
def gins (g b : Nat → Int) (m : Int) : Nat → Int := gtxt (gcm g) (g 0 + 1) b m
def gjn (g : Nat → Int) (n : Int) : Nat → Int := zset (gcp g (35 + 27 * n + 3) g (35 + 27 * (n - 1) + 3 + gln g n) (gln g (n + 1))) (35 + 27 * (n - 1) + 2).toNat (gln g n + gln g (n + 1))
def gprt (g : Nat → Int) (n i : Int) : Nat → Int := zset (zset (gcp (gcm g) (35 + 27 * (n - 1) + 3 + i) (gcm g) (35 + 27 * g 0 + 3) (gln g n - i)) (35 + 27 * g 0 + 2).toNat (gln g n - i)) (35 + 27 * (n - 1) + 2).toNat i
theorem gtxt_out {g : Nat → Int} {n : Int} {b : Nat → Int} {m : Int} {j : Nat} (h : (j : Int) < 35 + 27 * (n - 1) + 2) (h1 : 1 ≤ n) : gtxt g n b m j = g j := by
  unfold gtxt gcp
  rw [zset_n (by omega)]
  exact if_neg (by omega)
theorem gins_0 (g b : Nat → Int) (m : Int) (h : 0 ≤ g 0) : gtxt (gcm g) (g 0 + 1) b m 0 = g 0 + 1 := (gtxt_out (by omega) (by omega)).trans (gcm_0 g)
theorem gins_k (g b : Nat → Int) (m : Int) (h : 0 ≤ g 0) (h2 : g 0 ≤ 80) : gtxt (gcm g) (g 0 + 1) b m (35 + 27 * g 0 + 0).toNat = g 1 := by
  rw [gtxt_out (by omega) (by omega)]
  unfold gcm
  rw [zset_n (by omega), zset_n (by omega), zset_n (by omega), zset_n (by omega), show (35 + 27 * g 0 + 0).toNat = (35 + 27 * g 0).toNat by omega, zset_s]
theorem gcp_gof {s d : Nat → Int} {p1 p2 m n w : Int} (h1 : 1 ≤ n) (hw : 0 ≤ w) (hw2 : w < 27) (h : 35 + 27 * n ≤ p2) : gof (gcp s p1 d p2 m) n w = gof d n w := by
  unfold gof gcp
  exact if_neg (by omega)
theorem gprt_0 (g : Nat → Int) (n i : Int) (h : 0 ≤ g 0) (h1 : 1 ≤ n) : gprt g n i 0 = g 0 + 1 := by
  unfold gprt gcp
  rw [zset_n (by omega), zset_n (by omega), if_neg (by omega), gcm_0]
theorem gprt_k (g : Nat → Int) (n i : Int) (h : 0 ≤ g 0) (h1 : 1 ≤ n) (h2 : n ≤ g 0) : gprt g n i (35 + 27 * g 0 + 0).toNat = g 1 := by
  unfold gprt gcp
  rw [zset_n (by omega), zset_n (by omega), if_neg (by omega)]
  unfold gcm
  rw [zset_n (by omega), zset_n (by omega), zset_n (by omega), zset_n (by omega), show (35 + 27 * g 0 + 0).toNat = (35 + 27 * g 0).toNat by omega, zset_s]
theorem zsn_01 {f : Int → Int} {N : Int} (h : ∀ n, 1 ≤ n → n ≤ N → f n = 0 ∨ f n = 1) : ∀ k : Nat, (k : Int) ≤ N → 0 ≤ zsn f k ∧ zsn f k ≤ k
  | 0, _ => ⟨Int.le_refl _, Int.le_refl _⟩
  | k + 1, hk => by
    have ih := zsn_01 h k (by omega)
    have := h ((k : Int) + 1) (by omega) (by omega)
    rw [zsn]
    constructor <;> omega
/-- the order turned between f and t, ahead of k -/
def grv (f t k : Int) (o : Nat → Int) : Nat → Int := fun j => if f - 1 ≤ (j : Int) ∧ (j : Int) < k - 1 then f + t - (j + 1) else o j
theorem grv_0 (f t : Int) (o : Nat → Int) : grv f t f o = o := funext fun j => if_neg (by omega)
theorem grv_s {f t k : Int} (o : Nat → Int) (h1 : 1 ≤ f) (h : f ≤ k) : zset (grv f t k o) (k - 1).toNat (f + t - k) = grv f t (k + 1) o := funext fun j => by
  unfold grv
  by_cases e : j = (k - 1).toNat
  · rw [e, zset_s, if_pos (by omega)]
    omega
  · rw [zset_n e]
    by_cases q : f - 1 ≤ (j : Int) ∧ (j : Int) < k - 1
    · rw [if_pos q, if_pos (by omega)]
    · rw [if_neg q, if_neg (by omega)]
def grvo (N f t : Int) (o : Nat → Int) : Nat → Int := grv f t (t + 1) (gput (gblk 1 N.toNat) o)
theorem gblk_at {f : Int} {k j : Nat} (h : j < k) (h2 : j < (gblk f k).length) : (gblk f k)[j] = f + (j : Int) := by
  simp [gblk]
theorem grvo_ok {N f t : Int} (h1 : 1 ≤ f) (h2 : f ≤ t) (h3 : t ≤ N) (h6 : N ≤ 80) (o : Nat → Int) : ∀ j : Nat, (j : Int) < N → 1 ≤ grvo N f t o j ∧ grvo N f t o j ≤ 80 := fun j hj => by
  unfold grvo grv gput
  split
  · omega
  · rw [dif_pos (by rw [gblk_len]; omega), gblk_at (by omega)]
    omega
def gsh1 (g : Nat → Int) (p i : Int) : Nat → Int := fun j => if p ≤ (j : Int) ∧ (j : Int) < p + i - 1 then g (j + 1) else g j
theorem gsh1_1 (g : Nat → Int) (p : Int) : gsh1 g p 1 = g := funext fun j => if_neg (by omega)
theorem gsh1_s (g : Nat → Int) {p i : Int} (h : 1 ≤ i) (h2 : 0 ≤ p) : zset (gsh1 g p i) (p + i - 1).toNat (g (p + i).toNat) = gsh1 g p (i + 1) := funext fun j => by
  unfold gsh1
  by_cases e : j = (p + i - 1).toNat
  · rw [e, zset_s, if_pos (by omega), show (p + i - 1).toNat + 1 = (p + i).toNat by omega]
  · rw [zset_n e]
    by_cases q : p ≤ (j : Int) ∧ (j : Int) < p + i - 1
    · rw [if_pos q, if_pos (by omega)]
    · rw [if_neg q, if_neg (by omega)]
/-- a jump put on a list, the oldest of ten lost -/
def gpb (g : Nat → Int) (w : Nat) (p : Int) : Nat → Int := if g w = 10 then zset (gsh1 g p 10) w (g w - 1) else g
def gpu (g : Nat → Int) (w : Nat) (p v : Int) : Nat → Int := zset (zset (gpb g w p) (p + gpb g w p w).toNat v) w (gpb g w p w + 1)
theorem gpb_w (g : Nat → Int) (w : Nat) (p : Int) : gpb g w p w = if g w = 10 then 9 else g w := by
  unfold gpb
  by_cases e : g w = 10
  · rw [if_pos e, if_pos e, zset_s, e]; rfl
  · rw [if_neg e, if_neg e]
/-- the cursor comes to a key's line, which is shown -/
def gct (g : Nat → Int) (k : Int) : Nat → Int := gsw (zset g 2 k) (gnu (zset g 2 k) k)
theorem zwf_lo {g q : Nat → Int} (h : zln g q) (hw : zwf g) : zwf q := by
  obtain ⟨h1, h2, h3⟩ := hw
  refine ⟨by rw [h.1]; exact h1, by rw [h.1]; exact h2, fun n a b => ?_⟩
  have : gln q n = gln g n := h.2 _ (by omega)
  rw [this]
  exact h3 n a (by rw [h.1] at b; exact b)
theorem gpu_ln (g : Nat → Int) (w : Nat) (p : Nat) (v : Int) (hw : w = 3 ∨ w = 4) (hp : p = 15 ∨ p = 25) (h0 : 0 ≤ g w) (h1 : g w ≤ 10) : zln g (gpu g w p v) := by
  have hb := gpb_w g w p
  have hr : 0 ≤ gpb g w p w ∧ gpb g w p w ≤ 9 := by rw [hb]; split <;> omega
  have hl : zln g (gpb g w p) := by
    unfold gpb
    split
    · refine zln.set ⟨?_, fun j hj => ?_⟩ (by omega) (by omega) _
      · exact if_neg (by omega)
      · exact if_neg (by omega)
    · exact zln.refl g
  exact (hl.set (by omega) (by omega) _).set (by omega) (by omega) _
def gjt0 (g : Nat → Int) : Nat → Int := zset (gpu g 3 15 (g 2)) 4 0
def gjt (g : Nat → Int) (n : Int) : Nat → Int := gct (gjt0 g) (gky (gjt0 g) n)
theorem gct_lk {g q : Nat → Int} (h : zln g q) (k : Int) : gct q k 0 = g 0 ∧ ∀ n, 1 ≤ n → gln (gct q k) n = gln g n := by
  have h2 : zln g (zset q 2 k) := h.set (by decide) (by decide) k
  refine ⟨?_, fun n hn => ?_⟩
  · unfold gct; rw [gsw_0]; exact h2.1
  · unfold gct gsw
    rw [gsc_gln hn]
    exact h2.2 _ (by omega)
theorem gct_wf {g q : Nat → Int} (hw : zwf g) (h : zln g q) (k : Int) : zwf (gct q k) := by
  obtain ⟨e1, e2⟩ := gct_lk h k
  obtain ⟨h1, h2, h3⟩ := hw
  exact ⟨by rw [e1]; exact h1, by rw [e1]; exact h2, fun n a b => by rw [e2 n a]; exact h3 n a (by rw [e1] at b; exact b)⟩
theorem gjt0_ln (g : Nat → Int) (h0 : 0 ≤ g 3) (h1 : g 3 ≤ 10) : zln g (gjt0 g) := (gpu_ln g 3 15 (g 2) (by decide) (by decide) h0 h1).set (by decide) (by decide) _
theorem gjt_wf {g : Nat → Int} (hw : zwf g) (n : Int) (h0 : 0 ≤ g 3) (h1 : g 3 ≤ 10) : zwf (gjt g n) := gct_wf hw (gjt0_ln g h0 h1) _
theorem gjt_0 {g : Nat → Int} (n : Int) (h0 : 0 ≤ g 3) (h1 : g 3 ≤ 10) : gjt g n 0 = g 0 := (gct_lk (gjt0_ln g h0 h1) _).1
theorem gpu_at {g : Nat → Int} {w p j : Nat} {v : Int} (h0 : 0 ≤ g w) (h1 : g w ≤ 10) (hj : j ≠ w) (hj2 : j < p ∨ p + 10 ≤ j) : gpu g w p v j = g j := by
  have hb := gpb_w g w p
  have hr : 0 ≤ gpb g w p w ∧ gpb g w p w ≤ 9 := by rw [hb]; split <;> omega
  unfold gpu
  rw [zset_n hj, zset_n (by omega)]
  unfold gpb
  split
  · rw [zset_n hj]; exact if_neg (by omega)
  · rfl
def gtq (g : Nat → Int) (w1 w2 p2 : Nat) : Nat → Int := zset (gpu g w2 p2 (g 2)) w1 (g w1 - 1)
/-- a jump taken back: w1, p1 the list it is taken of -/
def gtkr (g : Nat → Int) (w1 p1 w2 p2 : Nat) : Nat → Int := gct (gtq g w1 w2 p2) (gtq g w1 w2 p2 (p1 + (g w1 - 1)).toNat)
theorem gtq_ln (g : Nat → Int) {w1 w2 p2 : Nat} (hw : w2 = 3 ∨ w2 = 4) (hp : p2 = 15 ∨ p2 = 25) (h0 : 0 ≤ g w2) (h1 : g w2 ≤ 10) (h2 : w1 ≠ 0) (h3 : w1 < 35) : zln g (gtq g w1 w2 p2) := (gpu_ln g w2 p2 _ hw hp h0 h1).set h2 h3 _
theorem ginn_in (g : Nat → Int) (n : Int) : ginn g n = -1 ∨ (0 ≤ ginn g n ∧ ginn g n < gN g) := by
  have key : ∀ k : Nat, zfo (ginnF g n) (-1) k = -1 ∨ (0 ≤ zfo (ginnF g n) (-1) k ∧ zfo (ginnF g n) (-1) k < k) := by
    intro k
    induction k with
    | zero => exact Or.inl rfl
    | succ k ih =>
      rw [zfo]
      generalize zfo (ginnF g n) (-1) k = b at ih
      unfold ginnF
      split <;> omega
  exact key (gN g)
