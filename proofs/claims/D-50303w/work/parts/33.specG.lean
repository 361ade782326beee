/-! THE PLAIN SIDE: a page cleared, loaded, written -/
theorem zRf_eq {r : Nat} {ad : Nat → Nat} {h0 h : zHp} {σ τ : zS} (e : σ = τ) (hf : zRf r ad σ h0 h) : zRf r ad τ h0 h := e ▸ hf
def gcl1 (g : Nat → Int) (i : Int) : Nat → Int := fun j => if (j : Int) < i then 0 else g j
theorem gcl1_0 (g : Nat → Int) : gcl1 g 0 = g := funext fun j => if_neg (by omega)
theorem gcl1_s (g : Nat → Int) {i : Int} (h : 0 ≤ i) : zset (gcl1 g i) i.toNat 0 = gcl1 g (i + 1) := funext fun j => by
  unfold gcl1
  by_cases e : j = i.toNat
  · rw [e, zset_s, if_pos (by omega)]
  · rw [zset_n e]
    by_cases q : (j : Int) < i
    · rw [if_pos q, if_pos (by omega)]
    · rw [if_neg q, if_neg (by omega)]
def gcl2 (g : Nat → Int) (k : Int) : Nat → Int := fun j => if 5 ≤ (j : Int) ∧ (j : Int) < 5 + k then -1 else g j
theorem gcl2_0 (g : Nat → Int) : gcl2 g 0 = g := funext fun j => if_neg (by omega)
theorem gcl2_s (g : Nat → Int) {k : Int} (h : 0 ≤ k) : zset (gcl2 g k) (5 + k).toNat (-1) = gcl2 g (k + 1) := funext fun j => by
  unfold gcl2
  by_cases e : j = (5 + k).toNat
  · rw [e, zset_s, if_pos (by omega)]
  · rw [zset_n e]
    by_cases q : 5 ≤ (j : Int) ∧ (j : Int) < 5 + k
    · rw [if_pos q, if_pos (by omega)]
    · rw [if_neg q, if_neg (by omega)]
/-- an empty page -/
def gclr (g : Nat → Int) : Nat → Int := gcl2 (zset (gcl1 g 2195) 2 (-1)) 10
theorem zuA_n1 {σ : zS} {k : Nat} {f f' : Nat → Int} (h : f = f') : zuA σ k f = zuA σ k f' := by rw [h]
/-- what is written: a list of bytes laid over an array -/
def gput (l : List Int) (f : Nat → Int) : Nat → Int := fun j => if h : j < l.length then l[j] else f j
theorem gput_nil (f : Nat → Int) : gput [] f = f := funext fun j => dif_neg (Nat.not_lt_zero j)
theorem gput_s (l : List Int) (f : Nat → Int) (c : Int) : zset (gput l f) l.length c = gput (l ++ [c]) f := funext fun j => by
  unfold gput
  by_cases e : j = l.length
  · subst e
    rw [zset_s, dif_pos (by simp)]
    simp
  · rw [zset_n e]
    by_cases q : j < l.length
    · rw [dif_pos q, dif_pos (by simp; omega), List.getElem_append_left q]
    · rw [dif_neg q, dif_neg (by simp; omega)]
def zTx (σ : zS) (l : List Int) : zS := zuS (zuA σ 25 (gput l (σ.2 25))) 26 l.length
/-- a number's digits -/
def gnum : Nat → Int → List Int
  | 0, n => [48 + n % 10]
  | d + 1, n => if n ≤ 9 then [48 + n % 10] else gnum d (n / 10) ++ [48 + n % 10]
abbrev gnm4 (n : Int) : List Int := gnum 4 n
theorem gnum_len : ∀ (d : Nat) (n : Int), (gnum d n).length ≤ d + 1
  | 0, _ => by unfold gnum; simp
  | d + 1, n => by
    have := gnum_len d (n / 10)
    unfold gnum
    split
    · simp
    · rw [List.length_append]; simp; omega
theorem gnum_pos : ∀ (d : Nat) (n : Int), 1 ≤ (gnum d n).length
  | 0, _ => by unfold gnum; simp
  | d + 1, n => by
    unfold gnum
    split <;> simp
def gtx (g : Nat → Int) (n : Int) : Nat → List Int
  | 0 => []
  | k + 1 => gtx g n k ++ [gch g n k]
theorem gtx_len (g : Nat → Int) (n : Int) : ∀ k : Nat, (gtx g n k).length = k
  | 0 => rfl
  | k + 1 => by rw [gtx, List.length_append, gtx_len g n k]; rfl
def gwr (g : Nat → Int) (n : Int) : List Int := gnm4 n ++ [if 0 < ghb (ghH g (gcl g)) (g 0) n then 43 else 58] ++ gtx g n (gln g n).toNat
theorem gwr_len (g : Nat → Int) (n : Int) (h : gln g n ≤ 24) : (gwr g n).length ≤ 30 := by
  have := gnum_len 4 n
  unfold gwr gnm4
  rw [List.length_append, List.length_append, gtx_len]
  simp
  omega
/-- rows of a page as they are written -/
def gwrs (g : Nat → Int) (m : Int) : Nat → List Int
  | 0 => []
  | k + 1 => gwrs g m k ++ (if k = 0 then [] else [124]) ++ gwr g (gli g (gcl g) (m + k))
/-- the outline as it is written -/
def gwo (g : Nat → Int) : Nat → List Int
  | 0 => []
  | k + 1 => gwo g k ++ (if k = 0 then [] else [32]) ++ gnm4 (gV g k) ++ [47] ++ gnm4 (gF g k) ++ [45] ++ gnm4 (gM g k) ++ (if gcl g (gF g k) = 1 then [42] else [])
/-- a line comes, at the end -/
def gcm (g : Nat → Int) : Nat → Int := zset (zset (zset (zset (zset g (35 + 27 * g 0).toNat (g 1)) (35 + 27 * g 0 + 1).toNat 0) (35 + 27 * g 0 + 2).toNat 0) 1 (g 1 + 1)) 0 (g 0 + 1)
theorem gcm_0 (g : Nat → Int) : gcm g 0 = g 0 + 1 := zset_s
theorem gcm_1 (g : Nat → Int) : gcm g 1 = g 1 + 1 := (zset_n (by decide)).trans zset_s
theorem gcm_lo (g : Nat → Int) {j : Nat} (h0 : 0 ≤ g 0) (h1 : 2 ≤ j) (h2 : j < 35) : gcm g j = g j := by
  unfold gcm
  rw [zset_n (by omega), zset_n (by omega), zset_n (by omega), zset_n (by omega), zset_n (by omega)]
/-- a letter comes to the last line -/
def gcc (g : Nat → Int) (c : Int) : Nat → Int := zset (zset g (35 + 27 * (g 0 - 1) + 3 + gln g (g 0)).toNat c) (35 + 27 * (g 0 - 1) + 2).toNat (gln g (g 0) + 1)
/-- reading: the page, the fault, where -/
def grdF (b : Nat → Int) (j : Nat) (s : (Nat → Int) × Int × Int) : (Nat → Int) × Int × Int :=
  if s.2.1 ≠ 0 then s
  else if b j = 124 then (if s.1 0 = 80 then (s.1, 3, (j : Int)) else (gcm s.1, 0, s.2.2))
  else if ¬ ((32 ≤ b j ∧ b j ≤ 126) ∧ b j ≠ 124) then (s.1, 1, (j : Int))
  else if gln s.1 (s.1 0) = 24 then (s.1, 2, (j : Int)) else (gcc s.1 (b j), 0, s.2.2)
def grd (b : Nat → Int) (s : (Nat → Int) × Int × Int) : Nat → (Nat → Int) × Int × Int
  | 0 => s
  | k + 1 => grdF b k (grd b s k)
theorem zuS_uS (σ : zS) (k : Nat) (v v' : Int) : zuS (zuS σ k v) k v' = zuS σ k v' := by
  unfold zuS
  refine Prod.ext (funext fun j => ?_) rfl
  show zset (zset σ.1 k v) k v' j = zset σ.1 k v' j
  by_cases e : j = k
  · rw [e, zset_s, zset_s]
  · rw [zset_n e, zset_n e, zset_n e]
theorem zuS_id' {σ : zS} (k : Nat) {v : Int} (h : σ.1 k = v) : zuS σ k v = σ := by
  subst h
  unfold zuS
  refine Prod.ext (funext fun j => ?_) rfl
  show zset σ.1 k (σ.1 k) j = σ.1 j
  by_cases e : j = k
  · rw [e, zset_s]
  · rw [zset_n e]
theorem ztx_2 (σ : zS) (a : Nat → Int) (b : Int) (c : Nat → Int) (d : Int) : zuS (zuA (zuS (zuA σ 25 a) 26 b) 25 c) 26 d = zuS (zuA σ 25 c) 26 d := by
  have e : zuA (zuS (zuA σ 25 a) 26 b) 25 c = zuS (zuA (zuA σ 25 a) 25 c) 26 b := rfl
  rw [e, zuA_uA, zuS_uS]
theorem gnum_l (n : Int) : ∀ d : Nat, (n ≤ 9 → (gnum (d + 1) n).length = 1) ∧ (n ≤ 99 → (gnum (d + 2) n).length ≤ 2) ∧ (n ≤ 999 → (gnum (d + 3) n).length ≤ 3) := by
  intro d
  have h1 : ∀ (m : Int) (d : Nat), m ≤ 9 → (gnum (d + 1) m).length = 1 := fun m d h => by rw [gnum, if_pos h]; rfl
  have h2 : ∀ (m : Int) (d : Nat), m ≤ 99 → (gnum (d + 2) m).length ≤ 2 := fun m d h => by
    rw [gnum]
    split
    · simp
    · rw [List.length_append, h1 _ d (by omega)]; simp
  refine ⟨h1 n d, h2 n d, fun h => ?_⟩
  rw [gnum]
  split
  · simp
  · have := h2 (n / 10) d (by omega)
    rw [List.length_append]
    simp
    omega
theorem gnm4_l (n : Int) : (gnm4 n).length ≤ 5 ∧ (n ≤ 99 → (gnm4 n).length ≤ 2) ∧ (n ≤ 999 → (gnm4 n).length ≤ 3) := ⟨gnum_len 4 n, (gnum_l n 2).2.1, (gnum_l n 1).2.2⟩
theorem gnum_big {d : Nat} {n : Int} (h : 9 < n) : gnum (d + 1) n = gnum d (n / 10) ++ [48 + n % 10] := by
  rw [gnum, if_neg (by omega)]
theorem gnum_small {d : Nat} {n : Int} (h : n ≤ 9) : gnum d n = [48 + n % 10] := by
  cases d with
  | zero => rfl
  | succ d => rw [gnum, if_pos h]
/-- the bytes of a page -/
def zwc (g : Nat → Int) : Prop := ∀ n i, 1 ≤ n → n ≤ g 0 → 0 ≤ i → i < gln g n → 32 ≤ gch g n i ∧ gch g n i ≤ 126 ∧ gch g n i ≠ 124
theorem ghb_in (H : Nat → Int) {N m : Int} (h : m ≤ N) : 0 ≤ ghb H N m ∧ ghb H N m ≤ N - m := by
  have := zrun_in (fun k => decide (H k.toNat = 1)) (N - m).toNat (m + 1)
  unfold ghb
  split <;> omega
theorem gli_in {g : Nat → Int} {m : Int} (h1 : 1 ≤ m) (h2 : m ≤ grow g (gcl g) (g 0)) : 1 ≤ gli g (gcl g) m ∧ gli g (gcl g) m ≤ g 0 := by
  rcases zfd_cases (fun n => decide (ghH g (gcl g) n.toNat = 0 ∧ m ≤ grow g (gcl g) n)) (g 0) with ⟨-, h⟩ | ⟨h3, h4, -⟩
  · exfalso
    have key : ∀ k : Nat, (k : Int) ≤ g 0 → grow g (gcl g) k < m := by
      intro k
      induction k with
      | zero => intro _; have : grow g (gcl g) ((0 : Nat) : Int) = 0 := rfl; omega
      | succ k ih =>
        intro hk
        have a := ih (by omega)
        have b := of_decide_eq_false (h ((k + 1 : Nat) : Int) (by omega) hk)
        have c := grow_p g (gcl g) (n := ((k + 1 : Nat) : Int)) (by omega)
        rw [show ((k + 1 : Nat) : Int) - 1 = k by omega] at c
        have d := ghH_01 g (gcl g) ((k + 1 : Nat) : Int).toNat
        by_cases e : ghH g (gcl g) ((k + 1 : Nat) : Int).toNat = 0
        · have : ¬ m ≤ grow g (gcl g) ((k + 1 : Nat) : Int) := fun q => b ⟨e, q⟩
          omega
        · omega
    rcases Int.lt_or_le (g 0) 0 with q | q
    · have : grow g (gcl g) (g 0) = 0 := by unfold grow gshn zsm9; rw [show (g 0).toNat = 0 by omega]; rfl
      omega
    · have := key (g 0).toNat (by omega)
      rw [Int.toNat_of_nonneg q] at this
      omega
  · exact ⟨h3, h4⟩
theorem gwrs_len (g : Nat → Int) (hl : ∀ n, 1 ≤ n → n ≤ g 0 → gln g n ≤ 24) {m : Int} (h1 : 1 ≤ m) : ∀ k : Nat, (k = 0 ∨ m + (k - 1) ≤ grow g (gcl g) (g 0)) → (gwrs g m k).length ≤ 31 * k
  | 0, _ => by unfold gwrs; simp
  | k + 1, h => by
    have a := gwrs_len g hl h1 k (by omega)
    have b := gli_in (g := g) (m := m + k) (by omega) (by omega)
    have c := gwr_len g (gli g (gcl g) (m + k)) (hl _ b.1 b.2)
    unfold gwrs
    rw [List.length_append, List.length_append]
    have d : (if k = 0 then ([] : List Int) else [124]).length ≤ 1 := by split <;> simp
    omega
theorem gwo_len {g : Nat → Int} (hw : zwf g) : ∀ k : Nat, k ≤ gN g → (gwo g k).length ≤ 11 * k
  | 0, _ => by unfold gwo; simp
  | k + 1, h => by
    have a := gwo_len hw k (by omega)
    have hgk := g_rows hw (r := k) (by omega)
    obtain ⟨w1, w2, w3⟩ := id hw
    have l1 := (gnm4_l (gV g k)).2.2 (by omega)
    have l2 := (gnm4_l (gF g k)).2.1 (by omega)
    have l3 := (gnm4_l (gM g k)).2.1 (by omega)
    have d : (if k = 0 then ([] : List Int) else [32]).length ≤ 1 := by split <;> simp
    have d2 : (if gcl g (gF g k) = 1 then ([42] : List Int) else []).length ≤ 1 := by split <;> simp
    unfold gwo
    simp only [List.length_append, List.length_cons, List.length_nil]
    omega
theorem zS_eq3 {σ ρ : zS} {G : Nat → Int} {c a : Int} (hA : ∀ k, k ≠ 1 → ρ.2 k = σ.2 k) (hB : ∀ k, k ≠ 9 → k ≠ 10 → ρ.1 k = σ.1 k) (hG : ρ.2 1 = G) (hc : ρ.1 9 = c) (ha : ρ.1 10 = a) : ρ = zuS (zuS (zuA σ 1 G) 9 c) 10 a := by
  refine Prod.ext (funext fun k => ?_) (funext fun k => ?_)
  · show ρ.1 k = zset (zset σ.1 9 c) 10 a k
    by_cases e : k = 10
    · rw [e, zset_s]; exact ha
    · rw [zset_n e]
      by_cases e2 : k = 9
      · rw [e2, zset_s]; exact hc
      · rw [zset_n e2]; exact hB k e2 e
  · show ρ.2 k = zset σ.2 1 G k
    by_cases e : k = 1
    · rw [e, zset_s]; exact hG
    · rw [zset_n e]; exact hA k e
theorem gcm_gof {g : Nat → Int} {n w : Int} (h0 : 0 ≤ g 0) (h1 : 1 ≤ n) (h2 : n ≤ g 0) (h3 : 0 ≤ w) (h4 : w < 27) : gof (gcm g) n w = gof g n w := by
  unfold gof gcm
  rw [zset_n (by omega), zset_n (by omega), zset_n (by omega), zset_n (by omega), zset_n (by omega)]
theorem gcm_new {g : Nat → Int} (h0 : 0 ≤ g 0) : gky (gcm g) (g 0 + 1) = g 1 ∧ gcl (gcm g) (g 0 + 1) = 0 ∧ gln (gcm g) (g 0 + 1) = 0 := by
  unfold gky gcl gln gof gcm
  refine ⟨?_, ?_, ?_⟩
  · rw [zset_n (by omega), zset_n (by omega), zset_n (by omega), zset_n (by omega), show (35 + 27 * (g 0 + 1 - 1) + 0).toNat = (35 + 27 * g 0).toNat by omega, zset_s]
  · rw [zset_n (by omega), zset_n (by omega), zset_n (by omega), show (35 + 27 * (g 0 + 1 - 1) + 1).toNat = (35 + 27 * g 0 + 1).toNat by omega, zset_s]
  · rw [zset_n (by omega), zset_n (by omega), show (35 + 27 * (g 0 + 1 - 1) + 2).toNat = (35 + 27 * g 0 + 2).toNat by omega, zset_s]
theorem zwf_cm {g : Nat → Int} (hw : zwf g) (h : g 0 < 80) : zwf (gcm g) := by
  obtain ⟨h1, h2, h3⟩ := hw
  refine ⟨by rw [gcm_0]; omega, by rw [gcm_0]; omega, fun n a b => ?_⟩
  rw [gcm_0] at b
  by_cases e : n = g 0 + 1
  · rw [e, (gcm_new h1).2.2]; omega
  · have : gln (gcm g) n = gln g n := gcm_gof h1 a (by omega) (by omega) (by omega)
    rw [this]
    exact h3 n a (by omega)
theorem gcc_lo (g : Nat → Int) (c : Int) (h0 : 1 ≤ g 0) (h1 : 0 ≤ gln g (g 0)) {j : Nat} (h2 : j < 35) : gcc g c j = g j := by
  unfold gcc
  rw [zset_n (by omega), zset_n (by omega)]
theorem gcc_gof {g : Nat → Int} {c n w : Int} (h0 : 1 ≤ g 0) (hl : 0 ≤ gln g (g 0)) (hl2 : gln g (g 0) < 24) (h1 : 1 ≤ n) (h2 : n ≤ g 0) (h3 : 0 ≤ w) (h4 : w < 27) : gof (gcc g c) n w = if n = g 0 ∧ w = 2 then gln g (g 0) + 1 else if n = g 0 ∧ w = 3 + gln g (g 0) then c else gof g n w := by
  unfold gof gcc
  by_cases e : n = g 0 ∧ w = 2
  · rw [if_pos e, show (35 + 27 * (n - 1) + w).toNat = (35 + 27 * (g 0 - 1) + 2).toNat by omega, zset_s]
  · rw [if_neg e, zset_n (by omega)]
    by_cases e2 : n = g 0 ∧ w = 3 + gln g (g 0)
    · rw [if_pos e2, show (35 + 27 * (n - 1) + w).toNat = (35 + 27 * (g 0 - 1) + 3 + gln g (g 0)).toNat by omega, zset_s]
    · rw [if_neg e2, zset_n (by omega)]
theorem zwf_cc {g : Nat → Int} (hw : zwf g) (h0 : 1 ≤ g 0) (h : gln g (g 0) ≠ 24) (c : Int) : zwf (gcc g c) := by
  obtain ⟨h1, h2, h3⟩ := id hw
  have hl := h3 (g 0) h0 (Int.le_refl _)
  have e0 : gcc g c 0 = g 0 := gcc_lo g c h0 hl.1 (by omega)
  refine ⟨by rw [e0]; exact h1, by rw [e0]; exact h2, fun n a b => ?_⟩
  rw [e0] at b
  have : gln (gcc g c) n = _ := gcc_gof (w := 2) h0 hl.1 (by omega) a b (by omega) (by omega)
  rw [this]
  split
  · omega
  · rw [if_neg (by omega)]
    exact h3 n a b
/-- what reading keeps -/
def zrdI (m : Int) (s : (Nat → Int) × Int × Int) : Prop := zwf s.1 ∧ s.1 1 = s.1 0 ∧ (0 < m → 1 ≤ s.1 0) ∧ 0 ≤ s.2.1 ∧ s.2.1 ≤ 3
theorem grdF_I {b : Nat → Int} {m : Int} {j : Nat} {s : (Nat → Int) × Int × Int} (hm : 0 < m) (h : zrdI m s) : zrdI m (grdF b j s) := by
  obtain ⟨h1, h2, h3, h4, h5⟩ := id h
  have h3 := h3 hm
  obtain ⟨w1, w2, w3⟩ := id h1
  have hl := w3 (s.1 0) h3 (Int.le_refl _)
  unfold grdF
  split
  · exact h
  · split
    · split
      · exact ⟨h1, h2, fun _ => h3, by show (0 : Int) ≤ 3; decide, by show (3 : Int) ≤ 3; decide⟩
      · refine ⟨zwf_cm h1 (by omega), ?_, fun _ => ?_, by show (0 : Int) ≤ 0; decide, by show (0 : Int) ≤ 3; decide⟩
        · show gcm s.1 1 = gcm s.1 0
          rw [gcm_0, gcm_1, h2]
        · show 1 ≤ gcm s.1 0
          rw [gcm_0]
          omega
    · split
      · exact ⟨h1, h2, fun _ => h3, by show (0 : Int) ≤ 1; decide, by show (1 : Int) ≤ 3; decide⟩
      · split
        · exact ⟨h1, h2, fun _ => h3, by show (0 : Int) ≤ 2; decide, by show (2 : Int) ≤ 3; decide⟩
        · rename_i q
          refine ⟨zwf_cc h1 h3 q _, ?_, fun _ => ?_, by show (0 : Int) ≤ 0; decide, by show (0 : Int) ≤ 3; decide⟩
          · show gcc s.1 _ 1 = gcc s.1 _ 0
            rw [gcc_lo _ _ h3 hl.1 (by omega), gcc_lo _ _ h3 hl.1 (by omega), h2]
          · show 1 ≤ gcc s.1 _ 0
            rw [gcc_lo _ _ h3 hl.1 (by omega)]
            exact h3
def grd0 (g : Nat → Int) (m : Int) : (Nat → Int) × Int × Int := (if 0 < m then gcm g else g, 0, -1)
def grdz (b g : Nat → Int) (m : Int) : Nat → Int := zset (grd b (grd0 g m) m.toNat).1 2 (if 0 < (grd b (grd0 g m) m.toNat).1 0 then 0 else -1)
def gby (v x : Int) : Int := (zI ((zI v >>> (zI (8 * x) &&& 31)).toInt)).toInt8.toInt32.toInt
def gf4 (b : Nat → Int) (q v : Int) : Nat → Nat → Int
  | 0 => b
  | k + 1 => zset (gf4 b q v k) (q + k).toNat (gby v (3 - k))
theorem gby_in (v x : Int) : -128 ≤ gby v x ∧ gby v x ≤ 127 := by
  unfold gby
  rw [Int8.toInt_toInt32]
  have := Int8.le_toInt (zI (zI v >>> (zI (8 * x) &&& 31)).toInt).toInt8
  have := Int8.toInt_lt (zI (zI v >>> (zI (8 * x) &&& 31)).toInt).toInt8
  omega
theorem zuSA_2 (σ : zS) (a : Nat → Int) (b : Int) (c : Nat → Int) (d : Int) : zuS (zuA (zuS (zuA σ 7 a) 8 b) 7 c) 8 d = zuS (zuA σ 7 c) 8 d := by
  have e : zuA (zuS (zuA σ 7 a) 8 b) 7 c = zuS (zuA (zuA σ 7 a) 7 c) 8 b := rfl
  rw [e, zuA_uA, zuS_uS]
theorem gl_at {G : Nat → Int} {o : Int} (h : o = 35 + 27 * (G 0 - 1)) : G (o + 2).toNat = gln G (G 0) := by rw [h]; rfl
theorem grdF_a {b : Nat → Int} {j : Nat} {G : Nat → Int} {c a : Int} (hc : c = 0) (h1 : b j = 124) (h2 : G 0 = 80) : grdF b j (G, c, a) = (G, 3, (j : Int)) := by
  unfold grdF
  rw [if_neg (by simp [hc]), if_pos h1, if_pos h2]
theorem grdF_b {b : Nat → Int} {j : Nat} {G : Nat → Int} {c a : Int} (hc : c = 0) (h1 : b j = 124) (h2 : G 0 ≠ 80) : grdF b j (G, c, a) = (gcm G, c, a) := by
  unfold grdF
  rw [if_neg (by simp [hc]), if_pos h1, if_neg h2, hc]
theorem grdF_c {b : Nat → Int} {j : Nat} {G : Nat → Int} {c a : Int} (hc : c = 0) (h1 : b j ≠ 124) (h2 : ¬ ((32 ≤ b j ∧ b j ≤ 126) ∧ b j ≠ 124)) : grdF b j (G, c, a) = (G, 1, (j : Int)) := by
  unfold grdF
  rw [if_neg (by simp [hc]), if_neg h1, if_pos h2]
theorem grdF_d {b : Nat → Int} {j : Nat} {G : Nat → Int} {c a : Int} (hc : c = 0) (h1 : b j ≠ 124) (h2 : (32 ≤ b j ∧ b j ≤ 126) ∧ b j ≠ 124) (h3 : gln G (G 0) = 24) : grdF b j (G, c, a) = (G, 2, (j : Int)) := by
  unfold grdF
  rw [if_neg (by simp [hc]), if_neg h1, if_neg (fun q => q h2), if_pos h3]
theorem grdF_e {b : Nat → Int} {j : Nat} {G : Nat → Int} {c a : Int} (hc : c = 0) (h1 : b j ≠ 124) (h2 : (32 ≤ b j ∧ b j ≤ 126) ∧ b j ≠ 124) (h3 : gln G (G 0) ≠ 24) : grdF b j (G, c, a) = (gcc G (b j), c, a) := by
  unfold grdF
  rw [if_neg (by simp [hc]), if_neg h1, if_neg (fun q => q h2), if_neg h3, hc]
theorem rdz_eq {σ ρ : zS} {G F : Nat → Int} {c a : Int} (hA : ∀ k, k ≠ 1 → ρ.2 k = σ.2 k) (hB : ∀ k, k ≠ 9 → k ≠ 10 → ρ.1 k = σ.1 k) (hG : ρ.2 1 = G) (hc : ρ.1 9 = c) (ha : ρ.1 10 = a) : zuA ρ 1 F = zuS (zuS (zuA σ 1 F) 9 c) 10 a := by
  rw [zS_eq3 hA hB hG hc ha]
  show zuS (zuS (zuA (zuA σ 1 G) 1 F) 9 c) 10 a = _
  rw [zuA_uA]
theorem grd_stop {b : Nat → Int} {s t : (Nat → Int) × Int × Int} {k n : Nat} (h : grd b s k = t) (hc : t.2.1 ≠ 0) (hn : k ≤ n) : grd b s n = t := by
  obtain ⟨d, rfl⟩ : ∃ d, n = k + d := ⟨n - k, by omega⟩
  clear hn
  induction d with
  | zero => exact h
  | succ d ih =>
    show grdF b (k + d) (grd b s (k + d)) = t
    rw [ih]
    unfold grdF
    rw [if_pos hc]
theorem gclr_hi (g : Nat → Int) {j : Nat} (h : 2195 ≤ j) : gclr g j = g j := by
  unfold gclr gcl2
  rw [if_neg (by omega), zset_n (by omega)]
  exact if_neg (by omega)
theorem gclr_lo (g : Nat → Int) {j : Nat} (h : j < 2195) : gclr g j = if j = 2 ∨ (5 ≤ j ∧ j < 15) then -1 else 0 := by
  unfold gclr gcl2
  by_cases e : 5 ≤ j ∧ j < 15
  · rw [if_pos (by omega), if_pos (Or.inr e)]
  · rw [if_neg (by omega)]
    by_cases e2 : j = 2
    · rw [e2, zset_s, if_pos (Or.inl rfl)]
    · rw [zset_n e2, if_neg (by omega)]
      exact if_pos (by omega)
theorem gclr_0 (g : Nat → Int) : gclr g 0 = 0 := gclr_lo g (by omega)
theorem gclr_1 (g : Nat → Int) : gclr g 1 = 0 := gclr_lo g (by omega)
theorem zwf_clr (g : Nat → Int) : zwf (gclr g) := ⟨by rw [gclr_0]; omega, by rw [gclr_0]; omega, fun n a b => by rw [gclr_0] at b; omega⟩
theorem grd0_I {g : Nat → Int} {m : Int} (hw : zwf g) (h0 : g 0 = 0) (h1 : g 1 = 0) : zrdI m (grd0 g m) := by
  unfold grd0
  by_cases e : 0 < m
  · rw [if_pos e]
    exact ⟨zwf_cm hw (by omega), by show gcm g 1 = gcm g 0; rw [gcm_0, gcm_1, h0, h1], fun _ => by show 1 ≤ gcm g 0; rw [gcm_0]; omega, by show (0 : Int) ≤ 0; decide, by show (0 : Int) ≤ 3; decide⟩
  · rw [if_neg e]
    exact ⟨hw, by show g 1 = g 0; omega, fun q => absurd q e, by show (0 : Int) ≤ 0; decide, by show (0 : Int) ≤ 3; decide⟩
theorem grd_I {b : Nat → Int} {m : Int} {s : (Nat → Int) × Int × Int} (h : zrdI m s) : ∀ k : Nat, (k : Int) ≤ m → zrdI m (grd b s k)
  | 0, _ => h
  | k + 1, hk => grdF_I (by omega) (grd_I h k (by omega))
theorem grdF_hi {b : Nat → Int} {m : Int} {j i : Nat} {s : (Nat → Int) × Int × Int} (hm : 0 < m) (h : zrdI m s) (hi : 2195 ≤ i) : (grdF b j s).1 i = s.1 i := by
  obtain ⟨h1, h2, h3, h4, h5⟩ := id h
  have h3 := h3 hm
  obtain ⟨w1, w2, w3⟩ := id h1
  have hl := w3 (s.1 0) h3 (Int.le_refl _)
  unfold grdF
  split
  · rfl
  · split
    · split
      · rfl
      · show gcm s.1 i = s.1 i
        unfold gcm
        rw [zset_n (by omega), zset_n (by omega), zset_n (by omega), zset_n (by omega), zset_n (by omega)]
    · split
      · rfl
      · split
        · rfl
        · show gcc s.1 _ i = s.1 i
          unfold gcc
          rw [zset_n (by omega), zset_n (by omega)]
theorem grd_hi {b : Nat → Int} {m : Int} {i : Nat} {s : (Nat → Int) × Int × Int} (h : zrdI m s) (hi : 2195 ≤ i) : ∀ k : Nat, (k : Int) ≤ m → (grd b s k).1 i = s.1 i
  | 0, _ => rfl
  | k + 1, hk => (grdF_hi (by omega) (grd_I h k (by omega)) hi).trans (grd_hi h hi k (by omega))
theorem grdz_hi {b g : Nat → Int} {m : Int} {i : Nat} (hw : zwf g) (h0 : g 0 = 0) (h1 : g 1 = 0) (hm : 0 ≤ m) (hi : 2195 ≤ i) : grdz b g m i = g i := by
  unfold grdz
  rw [zset_n (by omega), grd_hi (grd0_I hw h0 h1) hi _ (by omega)]
  unfold grd0
  split
  · show gcm g i = g i
    unfold gcm
    rw [zset_n (by omega), zset_n (by omega), zset_n (by omega), zset_n (by omega), zset_n (by omega)]
  · rfl
