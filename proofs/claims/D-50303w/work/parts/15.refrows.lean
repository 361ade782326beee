section ZS
variable {G : zG} {K : zM} {cc : ByteArray} {nL : Nat} {ret : Option FieldType} {hh : List (Nat × Nat × Nat × Nat)} {fr lo : Nat} {nm : String} {Q0 : zRs → zHp → Prop} {bc bs : Nat} {h : zHp} {pc : Nat} {L : List (Nat × zW)} {rest : List zW}
variable {r : Nat} {ad : Nat → Nat} {σ : zS} {h0 : zHp}
theorem zs_get (hO : zO G K RX3 cc nL ret hh fr lo nm Q0) (hf : zRf r ad σ h0 h) (k : Nat) {i : Nat} {x : Int} (hd : decode cc pc = .ok (.getfield i, 3)) (hl : Cond.fieldLink RX3 i (TX3 k).1 (TX3 k).2.1 (TX3 k).2.2.1 ∈ lw_all) (hk : k < 29) (hv : (zRF ad σ.1)[k]? = some (zi x)) (kk : zR x → zV G K bc bs h (pc + 3) L (zi x :: rest)) : zV G K bc bs h pc L (zp r :: rest) :=
  zr_getf hO zc_X3 k hk hd hl (zrd_of hf.1) hv kk
theorem zs_arr (hO : zO G K RX3 cc nL ret hh fr lo nm Q0) (hf : zRf r ad σ h0 h) (k : Nat) {i : Nat} (hd : decode cc pc = .ok (.getfield i, 3)) (hl : Cond.fieldLink RX3 i (TX3 k).1 (TX3 k).2.1 (TX3 k).2.2.1 ∈ lw_all) (hk : k < 29) (hv : (zRF ad σ.1)[k]? = some (zp (ad k))) (kk : zV G K bc bs h (pc + 3) L (zp (ad k) :: rest)) : zV G K bc bs h pc L (zp r :: rest) :=
  zr_getf hO zc_X3 k hk hd hl (zrd_of hf.1) hv (fun _ => kk)
theorem zs_put (hO : zO G K RX3 cc nL ret hh fr lo nm Q0) (hI : zRI r ad) (hf : zRf r ad σ h0 h) (k : Nat) {i : Nat} {v : Int} (hd : decode cc pc = .ok (.putfield i, 3)) (hl : Cond.fieldLink RX3 i (TX3 k).1 (TX3 k).2.1 (TX3 k).2.2.1 ∈ lw_all) (hk : k < 29) (ha : zRA k = false) (hfin : (TX3 k).2.2.2 = false) (hty : tyX3 k = .int) (hR : zR v) (kk : ∀ h' : zHp, zRf r ad (zuS σ k v) h0 h' → zV G K bc bs h' (pc + 3) L rest) : zV G K bc bs h pc L (zi v :: zp r :: rest) :=
  zr_putf hO zc_X3 k hk hd hl hf.1 hfin (by rw [hty]; exact zfit_i v) hR (kk _ (hf.putS hI k hk ha v))
theorem zs_ild (hO : zO G K RX3 cc nL ret hh fr lo nm Q0) (hf : zRf r ad σ h0 h) (k : Nat) {x : Int} {f : Nat → Int} {n j : Nat} (hd : decode cc pc = .ok (.iaload, 1)) (ha : zRA k = true) (ht : zRT k = 0) (hn : zRN k = n) (hv : σ.2 k = f) (g0 : 0 ≤ x) (g1 : x < n) (hj : x.toNat = j) (kk : zR (f j) → zV G K bc bs h (pc + 1) L (zi (f j) :: rest)) : zV G K bc bs h pc L (zi x :: zp (ad k) :: rest) := by
  have e := hf.2.1 k ha
  rw [ht, hn, hv] at e
  subst hj
  exact zr_iald hO hd (zrd_of e) g0 g1 kk
theorem zs_bld (hO : zO G K RX3 cc nL ret hh fr lo nm Q0) (hf : zRf r ad σ h0 h) (k : Nat) {x : Int} {f : Nat → Int} {n j : Nat} (hd : decode cc pc = .ok (.baload, 1)) (ha : zRA k = true) (ht : zRT k = 1) (hn : zRN k = n) (hv : σ.2 k = f) (g0 : 0 ≤ x) (g1 : x < n) (hj : x.toNat = j) (kk : -128 ≤ f j ∧ f j ≤ 127 → zV G K bc bs h (pc + 1) L (zi (f j) :: rest)) : zV G K bc bs h pc L (zi x :: zp (ad k) :: rest) := by
  have e := hf.2.1 k ha
  rw [ht, hn, hv] at e
  subst hj
  exact zr_bald hO hd (zrd_of e) g0 g1 kk
theorem zs_zld (hO : zO G K RX3 cc nL ret hh fr lo nm Q0) (hf : zRf r ad σ h0 h) (k : Nat) {x : Int} {f : Nat → Int} {n j : Nat} (hd : decode cc pc = .ok (.baload, 1)) (ha : zRA k = true) (ht : zRT k = 2) (hn : zRN k = n) (hv : σ.2 k = f) (g0 : 0 ≤ x) (g1 : x < n) (hj : x.toNat = j) (kk : f j = 0 ∨ f j = 1 → zV G K bc bs h (pc + 1) L (zi (f j) :: rest)) : zV G K bc bs h pc L (zi x :: zp (ad k) :: rest) := by
  have e := hf.2.1 k ha
  rw [ht, hn, hv] at e
  subst hj
  exact zr_zald hO hd (zrd_of e) g0 g1 kk
theorem zs_ist (hO : zO G K RX3 cc nL ret hh fr lo nm Q0) (hI : zRI r ad) (hf : zRf r ad σ h0 h) (k : Nat) {x y : Int} {f : Nat → Int} {n j : Nat} (hd : decode cc pc = .ok (.iastore, 1)) (ha : zRA k = true) (ht : zRT k = 0) (hn : zRN k = n) (hv : σ.2 k = f) (g0 : 0 ≤ x) (g1 : x < n) (hj : x.toNat = j) (ry : zR y) (kk : ∀ h' : zHp, zRf r ad (zuA σ k (zset f j y)) h0 h' → zV G K bc bs h' (pc + 1) L rest) : zV G K bc bs h pc L (zi y :: zi x :: zp (ad k) :: rest) := by
  subst hj
  have e := hf.2.1 k ha
  have e2 := hf.putA hI k ha (zset f x.toNat y)
  rw [ht, hn] at e2
  rw [ht, hn, hv] at e
  exact zr_iast hO hd e g0 g1 ry (kk _ e2)
theorem zs_bst (hO : zO G K RX3 cc nL ret hh fr lo nm Q0) (hI : zRI r ad) (hf : zRf r ad σ h0 h) (k : Nat) {x y : Int} {f : Nat → Int} {n j : Nat} (hd : decode cc pc = .ok (.bastore, 1)) (ha : zRA k = true) (ht : zRT k = 1) (hn : zRN k = n) (hv : σ.2 k = f) (g0 : 0 ≤ x) (g1 : x < n) (hj : x.toNat = j) (ry : -128 ≤ y ∧ y ≤ 127) (kk : ∀ h' : zHp, zRf r ad (zuA σ k (zset f j y)) h0 h' → zV G K bc bs h' (pc + 1) L rest) : zV G K bc bs h pc L (zi y :: zi x :: zp (ad k) :: rest) := by
  subst hj
  have e := hf.2.1 k ha
  have e2 := hf.putA hI k ha (zset f x.toNat y)
  rw [ht, hn] at e2
  rw [ht, hn, hv] at e
  exact zr_bast hO hd e g0 g1 ry (kk _ e2)
theorem zs_zst (hO : zO G K RX3 cc nL ret hh fr lo nm Q0) (hI : zRI r ad) (hf : zRf r ad σ h0 h) (k : Nat) {x y : Int} {f : Nat → Int} {n j : Nat} (hd : decode cc pc = .ok (.bastore, 1)) (ha : zRA k = true) (ht : zRT k = 2) (hn : zRN k = n) (hv : σ.2 k = f) (g0 : 0 ≤ x) (g1 : x < n) (hj : x.toNat = j) (ry : y = 0 ∨ y = 1) (kk : ∀ h' : zHp, zRf r ad (zuA σ k (zset f j y)) h0 h' → zV G K bc bs h' (pc + 1) L rest) : zV G K bc bs h pc L (zi y :: zi x :: zp (ad k) :: rest) := by
  subst hj
  have e := hf.2.1 k ha
  have e2 := hf.putA hI k ha (zset f x.toNat y)
  rw [ht, hn] at e2
  rw [ht, hn, hv] at e
  exact zr_zast hO hd e g0 g1 ry (kk _ e2)
end ZS
theorem zpn_X3 : plainName RX3 = true := by decide
def zB (p : Prop) [Decidable p] : Int := if p then 1 else 0
theorem zB_t {p : Prop} [Decidable p] (h : p) : zB p = 1 := if_pos h
theorem zB_f {p : Prop} [Decidable p] (h : ¬ p) : zB p = 0 := if_neg h
theorem zB_01 (p : Prop) [Decidable p] : zB p = 0 ∨ zB p = 1 := by
  by_cases h : p
  · exact Or.inr (zB_t h)
  · exact Or.inl (zB_f h)
theorem zB_ne {p : Prop} [Decidable p] (h : zB p ≠ 0) : p := Decidable.byContradiction fun n => h (zB_f n)
theorem zB_eq {p : Prop} [Decidable p] (h : zB p = 0) : ¬ p := fun n => by rw [zB_t n] at h; exact absurd h (by decide)
theorem zR_B (p : Prop) [Decidable p] : zR (zB p) := by rcases zB_01 p with h | h <;> rw [h] <;> constructor <;> omega
theorem znz {x : Int} (h : x = 0 ∨ x = 1) : narrow .boolean (.int (zI x)) = .int (zI x) := (zfit_z h).1
