abbrev zS : Type := (Nat → Int) × (Nat → Nat → Int)
def zRA (k : Nat) : Bool := match k with
  | 0 => false
  | 1 => true
  | 2 => true
  | 3 => true
  | 4 => true
  | 5 => true
  | 6 => false
  | 7 => true
  | 8 => false
  | 9 => false
  | 10 => false
  | 11 => true
  | 12 => true
  | 13 => true
  | 14 => true
  | 15 => true
  | 16 => true
  | 17 => true
  | 18 => true
  | 19 => true
  | 20 => true
  | 21 => true
  | 22 => false
  | 23 => false
  | 24 => true
  | 25 => true
  | 26 => false
  | 27 => true
  | 28 => true
  | _ => false
def zRT (k : Nat) : Nat := match k with
  | 5 => 2
  | 7 => 1
  | 21 => 2
  | 24 => 2
  | 25 => 1
  | _ => 0
def zRN (k : Nat) : Nat := match k with
  | 1 => 2195
  | 2 => 2195
  | 3 => 17560
  | 4 => 4390
  | 5 => 2
  | 7 => 700
  | 11 => 1920
  | 12 => 1920
  | 13 => 1920
  | 14 => 960
  | 15 => 960
  | 16 => 960
  | 17 => 960
  | 18 => 960
  | 19 => 960
  | 20 => 82
  | 21 => 82
  | 24 => 82
  | 25 => 11000
  | 27 => 80
  | 28 => 2160
  | _ => 0
def zRF (ad : Nat → Nat) (s : Nat → Int) : List zW := [zi (s 0), zp (ad 1), zp (ad 2), zp (ad 3), zp (ad 4), zp (ad 5), zi (s 6), zp (ad 7), zi (s 8), zi (s 9), zi (s 10), zp (ad 11), zp (ad 12), zp (ad 13), zp (ad 14), zp (ad 15), zp (ad 16), zp (ad 17), zp (ad 18), zp (ad 19), zp (ad 20), zp (ad 21), zi (s 22), zi (s 23), zp (ad 24), zp (ad 25), zi (s 26), zp (ad 27), zp (ad 28)]
def zRI (r : Nat) (ad : Nat → Nat) : Prop := (∀ j k : Nat, zRA j = true → zRA k = true → ad j = ad k → j = k) ∧ ∀ k : Nat, zRA k = true → ad k ≠ r
def zRf (r : Nat) (ad : Nat → Nat) (σ : zS) (h0 h : zHp) : Prop := h r = some (zob 0 (zRF ad σ.1)) ∧ (∀ k : Nat, zRA k = true → h (ad k) = some (zna (zRT k) (zRN k) (σ.2 k))) ∧ ∀ q : Nat, q ≠ r → (∀ k : Nat, zRA k = true → q ≠ ad k) → h q = h0 q
def zuS (σ : zS) (k : Nat) (v : Int) : zS := (zset σ.1 k v, σ.2)
def zuA (σ : zS) (k : Nat) (f : Nat → Int) : zS := (σ.1, zset σ.2 k f)
theorem zuS_at (σ : zS) (k : Nat) (v : Int) : (zuS σ k v).1 k = v := if_pos rfl
theorem zuS_ne (σ : zS) (k : Nat) (v : Int) {j : Nat} (h : j ≠ k) : (zuS σ k v).1 j = σ.1 j := if_neg h
theorem zuS_2 (σ : zS) (k : Nat) (v : Int) (j : Nat) : (zuS σ k v).2 j = σ.2 j := rfl
theorem zuA_1 (σ : zS) (k : Nat) (f : Nat → Int) (j : Nat) : (zuA σ k f).1 j = σ.1 j := rfl
theorem zuA_at (σ : zS) (k : Nat) (f : Nat → Int) : (zuA σ k f).2 k = f := if_pos rfl
theorem zuA_ne (σ : zS) (k : Nat) (f : Nat → Int) {j : Nat} (h : j ≠ k) : (zuA σ k f).2 j = σ.2 j := if_neg h
theorem zRF_set (ad : Nat → Nat) (s : Nat → Int) (k : Nat) (hk : k < 29) (ha : zRA k = false) (v : Int) : (zRF ad s).set k (zi v) = zRF ad (zset s k v) := by
  rcases (show k = 0 ∨ k = 6 ∨ k = 8 ∨ k = 9 ∨ k = 10 ∨ k = 22 ∨ k = 23 ∨ k = 26 by
    match k, hk, ha with
    | 0, _, _ => simp
    | 1, _, ha => exact absurd ha (by decide)
    | 2, _, ha => exact absurd ha (by decide)
    | 3, _, ha => exact absurd ha (by decide)
    | 4, _, ha => exact absurd ha (by decide)
    | 5, _, ha => exact absurd ha (by decide)
    | 6, _, _ => simp
    | 7, _, ha => exact absurd ha (by decide)
    | 8, _, _ => simp
    | 9, _, _ => simp
    | 10, _, _ => simp
    | 11, _, ha => exact absurd ha (by decide)
    | 12, _, ha => exact absurd ha (by decide)
    | 13, _, ha => exact absurd ha (by decide)
    | 14, _, ha => exact absurd ha (by decide)
    | 15, _, ha => exact absurd ha (by decide)
    | 16, _, ha => exact absurd ha (by decide)
    | 17, _, ha => exact absurd ha (by decide)
    | 18, _, ha => exact absurd ha (by decide)
    | 19, _, ha => exact absurd ha (by decide)
    | 20, _, ha => exact absurd ha (by decide)
    | 21, _, ha => exact absurd ha (by decide)
    | 22, _, _ => simp
    | 23, _, _ => simp
    | 24, _, ha => exact absurd ha (by decide)
    | 25, _, ha => exact absurd ha (by decide)
    | 26, _, _ => simp
    | 27, _, ha => exact absurd ha (by decide)
    | 28, _, ha => exact absurd ha (by decide)
    | k + 29, hk, _ => exact absurd hk (by omega)) with rfl | rfl | rfl | rfl | rfl | rfl | rfl | rfl
  all_goals rfl
theorem zRf.putS {r : Nat} {ad : Nat → Nat} {σ : zS} {h0 h : zHp} (hI : zRI r ad) (hf : zRf r ad σ h0 h) (k : Nat) (hk : k < 29) (ha : zRA k = false) (v : Int) : zRf r ad (zuS σ k v) h0 (zup h r (zob 0 ((zRF ad σ.1).set k (zi v)))) := by
  refine ⟨by rw [zup_s, zRF_set ad σ.1 k hk ha]; rfl, fun j hj => by rw [zup_n (hI.2 j hj)]; exact hf.2.1 j hj, fun q hq hj => by rw [zup_n hq]; exact hf.2.2 q hq hj⟩
theorem zRf.putA {r : Nat} {ad : Nat → Nat} {σ : zS} {h0 h : zHp} (hI : zRI r ad) (hf : zRf r ad σ h0 h) (k : Nat) (ha : zRA k = true) (f : Nat → Int) : zRf r ad (zuA σ k f) h0 (zup h (ad k) (zna (zRT k) (zRN k) f)) := by
  refine ⟨by rw [zup_n (Ne.symm (hI.2 k ha))]; exact hf.1, fun j hj => ?_, fun q hq hj => by rw [zup_n (hj k ha)]; exact hf.2.2 q hq hj⟩
  by_cases e : j = k
  · subst e
    rw [zup_s]
    show _ = some (zna _ _ (zset σ.2 j f j))
    rw [zset_s]
  · rw [zup_n (fun z => e (hI.1 j k hj ha z))]
    show _ = some (zna _ _ (zset σ.2 k f j))
    rw [zset_n e]
    exact hf.2.1 j hj
