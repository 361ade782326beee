/-! THE REFERENCE: clearing, writing (printed by gen/refs.py) -/
theorem c_X3_clears {G : zG} {r : Nat} {ad : Nat → Nat} {h0 : zHp} (hI : zRI r ad) {σ : zS} {h : zHp} (hf : zRf r ad σ h0 h) {g : Nat → Int} (hg : σ.2 1 = g) : zC G yX3_clears cX3_clears 2 none 0 0 0 0 [zp r] h (zPv (fun h' => zRf r ad (zuA σ 1 (gclr g)) h0 h') zNo) := by
  refine zC.of zpn_X3 (Nat.le_of_ble_eq_true rfl) (L := [(0, zp r)]) rfl (fun K hO => ?_)
  refine zr_iconst hO dX3_clears_0 ?_
  refine zr_istore_n hO (L' := [(1, zi 0), (0, zp r)]) (hi := rfl) dX3_clears_1 (Nat.le_of_ble_eq_true rfl) rfl ?_
  have hl2 : ∀ (n9 : Nat) (i : Int), (2195 - i).toNat = n9 → ∀ (i1 : 0 ≤ i) (i2 : i ≤ 2195) (h : zHp) (hf : zRf r ad (zuA σ 1 (gcl1 g i)) h0 h), zV G K 0 0 h 2 [(0, zp r), (1, zi i)] [] := by
    intro n9
    induction n9 using Nat.strongRecOn with
    | _ n9 ih2 =>
    intro i hn2 i1 i2 h hf
    refine zr_iload_n hO (hl := rfl) (j := 1) (hi := rfl) dX3_clears_2 ?_
    refine zr_sipush hO (by decide) dX3_clears_3 ?_
    refine zr_icmp_ge hO ⟨by omega, by omega⟩ ⟨by omega, by omega⟩ (tgt := 22) dX3_clears_6 rfl (fun c6 => ?_) (fun c6 => ?_)
    · skip
      refine zr_aload_n hO (hl := rfl) (j := 0) (hi := rfl) dX3_clears_22 ?_
      refine zs_arr hO hf 1 dX3_clears_23 q2971 (Nat.le_of_ble_eq_true rfl) rfl ?_
      refine zr_iconst hO dX3_clears_26 ?_
      refine zr_iconst hO dX3_clears_27 ?_
      refine zs_ist hO hI hf 1 (f := gcl1 g i) (n := 2195) (j := 2) dX3_clears_28 rfl rfl rfl rfl (by omega) (by omega) rfl ⟨by omega, by omega⟩ (fun h hf => ?_)
      refine zr_iconst hO dX3_clears_29 ?_
      refine zr_istore_n hO (L' := [(1, zi 0), (0, zp r)]) (hi := rfl) dX3_clears_30 (Nat.le_of_ble_eq_true rfl) rfl ?_
      have hl31 : ∀ (n9 : Nat) (i : Int), (10 - i).toNat = n9 → ∀ (i1 : 0 ≤ i) (i2 : i ≤ 10) (h : zHp) (hf : zRf r ad (zuA σ 1 (gcl2 (zset (gcl1 g 2195) 2 (-1)) i)) h0 h), zV G K 0 0 h 31 [(0, zp r), (1, zi i)] [] := by
        intro n9
        induction n9 using Nat.strongRecOn with
        | _ n9 ih31 =>
        intro i hn31 i1 i2 h hf
        refine zr_iload_n hO (hl := rfl) (j := 1) (hi := rfl) dX3_clears_31 ?_
        refine zr_bipush hO (by decide) dX3_clears_32 ?_
        refine zr_icmp_ge hO ⟨by omega, by omega⟩ ⟨by omega, by omega⟩ (tgt := 52) dX3_clears_34 rfl (fun c34 => ?_) (fun c34 => ?_)
        · skip
          exact zr_return hO dX3_clears_52 (zRf_eq (by unfold gclr; rw [show i = 10 by omega]) hf)
        · skip
          refine zr_aload_n hO (hl := rfl) (j := 0) (hi := rfl) dX3_clears_37 ?_
          refine zs_arr hO hf 1 dX3_clears_38 q2971 (Nat.le_of_ble_eq_true rfl) rfl ?_
          refine zr_iconst hO dX3_clears_41 ?_
          refine zr_iload_n hO (hl := rfl) (j := 1) (hi := rfl) dX3_clears_42 ?_
          refine zr_iadd hO dX3_clears_43 ?_
          refine zr_iconst hO dX3_clears_44 ?_
          refine zs_ist hO hI hf 1 (f := gcl2 (zset (gcl1 g 2195) 2 (-1)) i) (n := 2195) (j := (5 + i).toNat) dX3_clears_45 rfl rfl rfl rfl (by omega) (by omega) rfl ⟨by omega, by omega⟩ (fun h hf => ?_)
          refine zr_iinc hO (L' := [(1, zi (i + 1)), (0, zp r)]) (j := 1) dX3_clears_46 rfl (Nat.le_of_ble_eq_true rfl) rfl ?_
          refine zr_goto hO (tgt := 31) dX3_clears_49 rfl ?_
          refine zV.loc [1, 0] rfl ?_
          exact ih31 _ (by omega) (i + 1) rfl (by omega) (by omega) h (zRf_eq (by rw [zuA_uA, gcl2_s _ i1]) hf)
      refine zV.loc [1, 0] rfl ?_
      exact hl31 _ 0 rfl (by omega) (by omega) h (zRf_eq (by rw [zuA_uA, gcl2_0, show (i : Int) = 2195 by omega]) hf)
    · skip
      refine zr_aload_n hO (hl := rfl) (j := 0) (hi := rfl) dX3_clears_9 ?_
      refine zs_arr hO hf 1 dX3_clears_10 q2971 (Nat.le_of_ble_eq_true rfl) rfl ?_
      refine zr_iload_n hO (hl := rfl) (j := 1) (hi := rfl) dX3_clears_13 ?_
      refine zr_iconst hO dX3_clears_14 ?_
      refine zs_ist hO hI hf 1 (f := gcl1 g i) (n := 2195) (j := i.toNat) dX3_clears_15 rfl rfl rfl rfl (by omega) (by omega) rfl ⟨by omega, by omega⟩ (fun h hf => ?_)
      refine zr_iinc hO (L' := [(1, zi (i + 1)), (0, zp r)]) (j := 1) dX3_clears_16 rfl (Nat.le_of_ble_eq_true rfl) rfl ?_
      refine zr_goto hO (tgt := 2) dX3_clears_19 rfl ?_
      refine zV.loc [1, 0] rfl ?_
      exact ih2 _ (by omega) (i + 1) rfl (by omega) (by omega) h (zRf_eq (by rw [zuA_uA, gcl1_s g i1]) hf)
  refine zV.loc [1, 0] rfl ?_
  exact hl2 _ 0 rfl (by omega) (by omega) h (zRf_eq (by rw [gcl1_0]; exact (zuA_id' 1 hg).symm) hf)
theorem c_X3_faults {G : zG} {r : Nat} {ad : Nat → Nat} {h0 : zHp} (hI : zRI r ad) {σ : zS} {h : zHp} (hf : zRf r ad σ h0 h) (k : Int) (p : Int) (hk : zR k) (hp : zR p) : zC G yX3_faults cX3_faults 3 none 0 0 0 0 [zp r, zi k, zi p] h (zPv (fun h' => zRf r ad (zuS (zuS σ 9 k) 10 p) h0 h') zNo) := by
  refine zC.of zpn_X3 (Nat.le_of_ble_eq_true rfl) (L := [(0, zp r), (1, zi k), (2, zi p)]) rfl (fun K hO => ?_)
  obtain ⟨hka, hkb⟩ := hk
  obtain ⟨hpa, hpb⟩ := hp
  refine zr_aload_n hO (hl := rfl) (j := 0) (hi := rfl) dX3_faults_0 ?_
  refine zr_iload_n hO (hl := rfl) (j := 1) (hi := rfl) dX3_faults_1 ?_
  refine zs_put hO hI hf 9 dX3_faults_2 q2979 (Nat.le_of_ble_eq_true rfl) rfl rfl rfl ⟨by omega, by omega⟩ (fun h hf => ?_)
  refine zr_aload_n hO (hl := rfl) (j := 0) (hi := rfl) dX3_faults_5 ?_
  refine zr_iload_n hO (hl := rfl) (j := 2) (hi := rfl) dX3_faults_6 ?_
  refine zs_put hO hI hf 10 dX3_faults_7 q2980 (Nat.le_of_ble_eq_true rfl) rfl rfl rfl ⟨by omega, by omega⟩ (fun h hf => ?_)
  exact zr_return hO dX3_faults_10 hf
theorem c_X3_writesByte {G : zG} {r : Nat} {ad : Nat → Nat} {h0 : zHp} (hI : zRI r ad) {σ : zS} {h : zHp} (hf : zRf r ad σ h0 h) {l : List Int} {f : Nat → Int} (h25 : σ.2 25 = gput l f) (h26 : σ.1 26 = (l.length : Int)) (c : Int) (h1 : 0 ≤ c) (h2 : c ≤ 127) (h3 : l.length < 11000) : zC G yX3_writesByte cX3_writesByte 2 none 0 0 0 0 [zp r, zi c] h (zPv (fun h' => zRf r ad (zuS (zuA σ 25 (gput (l ++ [c]) f)) 26 ((l ++ [c]).length : Int)) h0 h') zNo) := by
  refine zC.of zpn_X3 (Nat.le_of_ble_eq_true rfl) (L := [(0, zp r), (1, zi c)]) rfl (fun K hO => ?_)
  refine zr_aload_n hO (hl := rfl) (j := 0) (hi := rfl) dX3_writesByte_0 ?_
  refine zs_arr hO hf 25 dX3_writesByte_1 q2995 (Nat.le_of_ble_eq_true rfl) rfl ?_
  refine zr_aload_n hO (hl := rfl) (j := 0) (hi := rfl) dX3_writesByte_4 ?_
  refine zs_get hO hf 26 (x := (l.length : Int)) dX3_writesByte_5 q2996 (Nat.le_of_ble_eq_true rfl) (congrArg (fun z => some (zi z)) h26) (fun ⟨r1a, r1b⟩ => ?_)
  refine zr_iload_n hO (hl := rfl) (j := 1) (hi := rfl) dX3_writesByte_8 ?_
  refine zr_i2b hO (x := c) (zI_byte ⟨by omega, by omega⟩) dX3_writesByte_9 ?_
  refine zs_bst hO hI hf 25 (f := gput l f) (n := 11000) (j := l.length) dX3_writesByte_10 rfl rfl rfl h25 (by omega) (by omega) (Int.toNat_natCast _) ⟨by omega, by omega⟩ (fun h hf => ?_)
  refine zr_aload_n hO (hl := rfl) (j := 0) (hi := rfl) dX3_writesByte_11 ?_
  refine zr_dup hO rfl dX3_writesByte_12 ?_
  refine zs_get hO hf 26 (x := (l.length : Int)) dX3_writesByte_13 q2996 (Nat.le_of_ble_eq_true rfl) (congrArg (fun z => some (zi z)) h26) (fun ⟨r2a, r2b⟩ => ?_)
  refine zr_iconst hO dX3_writesByte_16 ?_
  refine zr_iadd hO dX3_writesByte_17 ?_
  refine zs_put hO hI hf 26 dX3_writesByte_18 q2996 (Nat.le_of_ble_eq_true rfl) rfl rfl rfl ⟨by omega, by omega⟩ (fun h hf => ?_)
  exact zr_return hO dX3_writesByte_21 (zRf_eq (by rw [gput_s, List.length_append]; rfl) hf)
theorem zw_X3_275 : zYw RX3 RX3 275 yX3_writesByte cX3_writesByte 2 none 1 := ⟨q3416, q3418, qs87, q116, q3419, rfl, ⟨by decide +kernel, by decide +kernel, by decide +kernel⟩⟩
theorem c_X3_writesNumber0 {G : zG} {r : Nat} {ad : Nat → Nat} {h0 : zHp} (hI : zRI r ad) {σ : zS} {h : zHp} (hf : zRf r ad σ h0 h) {l : List Int} {f : Nat → Int} (h25 : σ.2 25 = gput l f) (h26 : σ.1 26 = (l.length : Int)) (n : Int) (h1 : 0 ≤ n) (h2 : n ≤ 9) (h3 : l.length + 1 ≤ 11000) : zC G yX3_writesNumber cX3_writesNumber 2 none 1 21 0 0 [zp r, zi n] h (zPv (fun h' => zRf r ad (zuS (zuA σ 25 (gput (l ++ gnum 0 n) f)) 26 ((l ++ gnum 0 n).length : Int)) h0 h') zNo) := by
  refine zC.of zpn_X3 (Nat.le_of_ble_eq_true rfl) (L := [(0, zp r), (1, zi n)]) rfl (fun K hO => ?_)
  refine zr_iload_n hO (hl := rfl) (j := 1) (hi := rfl) dX3_writesNumber_0 ?_
  refine zr_bipush hO (by decide) dX3_writesNumber_1 ?_
  refine zr_icmp_le hO ⟨by omega, by omega⟩ ⟨by omega, by omega⟩ (tgt := 14) dX3_writesNumber_3 rfl (fun c3 => ?_) (fun c3 => ?_)
  · skip
    refine zr_aload_n hO (hl := rfl) (j := 0) (hi := rfl) dX3_writesNumber_14 ?_
    refine zr_bipush hO (by decide) dX3_writesNumber_15 ?_
    refine zr_iload_n hO (hl := rfl) (j := 1) (hi := rfl) dX3_writesNumber_17 ?_
    refine zr_bipush hO (by decide) dX3_writesNumber_18 ?_
    refine zr_irem hO (by omega) (by omega) (by omega) (by omega) dX3_writesNumber_20 ?_
    refine zr_iadd hO dX3_writesNumber_21 ?_
    refine zr_cVv hO zc_X3 zw_X3_275 (c_X3_writesByte hI hf h25 h26 (48 + (n % 10)) (by omega) (by omega) (by have := gnum_len 0 (n / 10); first | omega | (rw [List.length_append]; omega))) dX3_writesNumber_22 (zrd_of hf.1) rfl (rest := []) rfl ⟨Nat.le_of_ble_eq_true rfl, Nat.le_of_ble_eq_true rfl⟩ (Nat.le_of_ble_eq_true rfl) (Nat.le_refl _) (Nat.le_refl _) (fun h hx => ?_)
    have hf : zRf r ad (zuS (zuA σ 25 (gput (l ++ [(48 + (n % 10))]) f)) 26 ((l ++ [(48 + (n % 10))]).length : Int)) h0 h := hx
    have hf : zRf r ad (zuS (zuA σ 25 (gput (l ++ [(48 + (n % 10))]) f)) 26 ((l ++ [(48 + (n % 10))]).length : Int)) h0 h := hf
    exact zr_return hO dX3_writesNumber_25 (zRf_eq (by rw [show gnum 0 n = _ from gnum_small (by omega)]) hf)
  · skip
    omega
theorem zw_X3_272 : zYw RX3 RX3 272 yX3_writesNumber cX3_writesNumber 2 none 1 := ⟨q3412, q3414, qs86, q116, q3415, rfl, ⟨by decide +kernel, by decide +kernel, by decide +kernel⟩⟩
theorem c_X3_writesNumber1 {G : zG} {r : Nat} {ad : Nat → Nat} {h0 : zHp} (hI : zRI r ad) {σ : zS} {h : zHp} (hf : zRf r ad σ h0 h) {l : List Int} {f : Nat → Int} (h25 : σ.2 25 = gput l f) (h26 : σ.1 26 = (l.length : Int)) (n : Int) (h1 : 0 ≤ n) (h2 : n ≤ 99) (h3 : l.length + 2 ≤ 11000) : zC G yX3_writesNumber cX3_writesNumber 2 none 2 42 0 0 [zp r, zi n] h (zPv (fun h' => zRf r ad (zuS (zuA σ 25 (gput (l ++ gnum 1 n) f)) 26 ((l ++ gnum 1 n).length : Int)) h0 h') zNo) := by
  refine zC.of zpn_X3 (Nat.le_of_ble_eq_true rfl) (L := [(0, zp r), (1, zi n)]) rfl (fun K hO => ?_)
  refine zr_iload_n hO (hl := rfl) (j := 1) (hi := rfl) dX3_writesNumber_0 ?_
  refine zr_bipush hO (by decide) dX3_writesNumber_1 ?_
  refine zr_icmp_le hO ⟨by omega, by omega⟩ ⟨by omega, by omega⟩ (tgt := 14) dX3_writesNumber_3 rfl (fun c3 => ?_) (fun c3 => ?_)
  · skip
    refine zr_aload_n hO (hl := rfl) (j := 0) (hi := rfl) dX3_writesNumber_14 ?_
    refine zr_bipush hO (by decide) dX3_writesNumber_15 ?_
    refine zr_iload_n hO (hl := rfl) (j := 1) (hi := rfl) dX3_writesNumber_17 ?_
    refine zr_bipush hO (by decide) dX3_writesNumber_18 ?_
    refine zr_irem hO (by omega) (by omega) (by omega) (by omega) dX3_writesNumber_20 ?_
    refine zr_iadd hO dX3_writesNumber_21 ?_
    refine zr_cVv hO zc_X3 zw_X3_275 (c_X3_writesByte hI hf h25 h26 (48 + (n % 10)) (by omega) (by omega) (by have := gnum_len 0 (n / 10); first | omega | (rw [List.length_append]; omega))) dX3_writesNumber_22 (zrd_of hf.1) rfl (rest := []) rfl ⟨Nat.le_of_ble_eq_true rfl, Nat.le_of_ble_eq_true rfl⟩ (Nat.le_of_ble_eq_true rfl) (Nat.le_refl _) (Nat.le_refl _) (fun h hx => ?_)
    have hf : zRf r ad (zuS (zuA σ 25 (gput (l ++ [(48 + (n % 10))]) f)) 26 ((l ++ [(48 + (n % 10))]).length : Int)) h0 h := hx
    have hf : zRf r ad (zuS (zuA σ 25 (gput (l ++ [(48 + (n % 10))]) f)) 26 ((l ++ [(48 + (n % 10))]).length : Int)) h0 h := hf
    exact zr_return hO dX3_writesNumber_25 (zRf_eq (by rw [show gnum 1 n = _ from gnum_small (by omega)]) hf)
  · skip
    refine zr_aload_n hO (hl := rfl) (j := 0) (hi := rfl) dX3_writesNumber_6 ?_
    refine zr_iload_n hO (hl := rfl) (j := 1) (hi := rfl) dX3_writesNumber_7 ?_
    refine zr_bipush hO (by decide) dX3_writesNumber_8 ?_
    refine zr_idiv hO (by omega) (by omega) (by omega) (by omega) dX3_writesNumber_10 ?_
    refine zr_cVv hO zc_X3 zw_X3_272 (c_X3_writesNumber0 hI hf h25 h26 (n / 10) (by omega) (by omega) (by omega)) dX3_writesNumber_11 (zrd_of hf.1) rfl (rest := []) rfl ⟨Nat.le_of_ble_eq_true rfl, Nat.le_of_ble_eq_true rfl⟩ (Nat.le_of_ble_eq_true rfl) (Nat.le_refl _) (Nat.le_refl _) (fun h hx => ?_)
    have hf : zRf r ad (zuS (zuA σ 25 (gput (l ++ gnum 0 (n / 10)) f)) 26 ((l ++ gnum 0 (n / 10)).length : Int)) h0 h := hx
    have hf : zRf r ad (zuS (zuA σ 25 (gput (l ++ gnum 0 (n / 10)) f)) 26 ((l ++ gnum 0 (n / 10)).length : Int)) h0 h := hf
    refine zr_aload_n hO (hl := rfl) (j := 0) (hi := rfl) dX3_writesNumber_14 ?_
    refine zr_bipush hO (by decide) dX3_writesNumber_15 ?_
    refine zr_iload_n hO (hl := rfl) (j := 1) (hi := rfl) dX3_writesNumber_17 ?_
    refine zr_bipush hO (by decide) dX3_writesNumber_18 ?_
    refine zr_irem hO (by omega) (by omega) (by omega) (by omega) dX3_writesNumber_20 ?_
    refine zr_iadd hO dX3_writesNumber_21 ?_
    refine zr_cVv hO zc_X3 zw_X3_275 (c_X3_writesByte hI hf ((zuS_2 (zuA σ 25 (gput (l ++ gnum 0 (n / 10)) f)) 26 ((l ++ gnum 0 (n / 10)).length : Int) 25).trans (zuA_at σ 25 (gput (l ++ gnum 0 (n / 10)) f))) (zuS_at (zuA σ 25 (gput (l ++ gnum 0 (n / 10)) f)) 26 ((l ++ gnum 0 (n / 10)).length : Int)) (48 + (n % 10)) (by omega) (by omega) (by have := gnum_len 0 (n / 10); first | omega | (rw [List.length_append]; omega))) dX3_writesNumber_22 (zrd_of hf.1) rfl (rest := []) rfl ⟨Nat.le_of_ble_eq_true rfl, Nat.le_of_ble_eq_true rfl⟩ (Nat.le_of_ble_eq_true rfl) (Nat.le_refl _) (Nat.le_refl _) (fun h hx => ?_)
    have hf : zRf r ad (zuS (zuA (zuS (zuA σ 25 (gput (l ++ gnum 0 (n / 10)) f)) 26 ((l ++ gnum 0 (n / 10)).length : Int)) 25 (gput ((l ++ gnum 0 (n / 10)) ++ [(48 + (n % 10))]) f)) 26 (((l ++ gnum 0 (n / 10)) ++ [(48 + (n % 10))]).length : Int)) h0 h := hx
    have hf : zRf r ad (zuS (zuA σ 25 (gput ((l ++ gnum 0 (n / 10)) ++ [(48 + (n % 10))]) f)) 26 (((l ++ gnum 0 (n / 10)) ++ [(48 + (n % 10))]).length : Int)) h0 h := zRf_eq (ztx_2 _ _ _ _ _) hf
    exact zr_return hO dX3_writesNumber_25 (zRf_eq (by rw [show gnum 1 n = _ from gnum_big (by omega), ← List.append_assoc]) hf)
theorem c_X3_writesNumber2 {G : zG} {r : Nat} {ad : Nat → Nat} {h0 : zHp} (hI : zRI r ad) {σ : zS} {h : zHp} (hf : zRf r ad σ h0 h) {l : List Int} {f : Nat → Int} (h25 : σ.2 25 = gput l f) (h26 : σ.1 26 = (l.length : Int)) (n : Int) (h1 : 0 ≤ n) (h2 : n ≤ 999) (h3 : l.length + 3 ≤ 11000) : zC G yX3_writesNumber cX3_writesNumber 2 none 3 63 0 0 [zp r, zi n] h (zPv (fun h' => zRf r ad (zuS (zuA σ 25 (gput (l ++ gnum 2 n) f)) 26 ((l ++ gnum 2 n).length : Int)) h0 h') zNo) := by
  refine zC.of zpn_X3 (Nat.le_of_ble_eq_true rfl) (L := [(0, zp r), (1, zi n)]) rfl (fun K hO => ?_)
  refine zr_iload_n hO (hl := rfl) (j := 1) (hi := rfl) dX3_writesNumber_0 ?_
  refine zr_bipush hO (by decide) dX3_writesNumber_1 ?_
  refine zr_icmp_le hO ⟨by omega, by omega⟩ ⟨by omega, by omega⟩ (tgt := 14) dX3_writesNumber_3 rfl (fun c3 => ?_) (fun c3 => ?_)
  · skip
    refine zr_aload_n hO (hl := rfl) (j := 0) (hi := rfl) dX3_writesNumber_14 ?_
    refine zr_bipush hO (by decide) dX3_writesNumber_15 ?_
    refine zr_iload_n hO (hl := rfl) (j := 1) (hi := rfl) dX3_writesNumber_17 ?_
    refine zr_bipush hO (by decide) dX3_writesNumber_18 ?_
    refine zr_irem hO (by omega) (by omega) (by omega) (by omega) dX3_writesNumber_20 ?_
    refine zr_iadd hO dX3_writesNumber_21 ?_
    refine zr_cVv hO zc_X3 zw_X3_275 (c_X3_writesByte hI hf h25 h26 (48 + (n % 10)) (by omega) (by omega) (by have := gnum_len 1 (n / 10); first | omega | (rw [List.length_append]; omega))) dX3_writesNumber_22 (zrd_of hf.1) rfl (rest := []) rfl ⟨Nat.le_of_ble_eq_true rfl, Nat.le_of_ble_eq_true rfl⟩ (Nat.le_of_ble_eq_true rfl) (Nat.le_refl _) (Nat.le_refl _) (fun h hx => ?_)
    have hf : zRf r ad (zuS (zuA σ 25 (gput (l ++ [(48 + (n % 10))]) f)) 26 ((l ++ [(48 + (n % 10))]).length : Int)) h0 h := hx
    have hf : zRf r ad (zuS (zuA σ 25 (gput (l ++ [(48 + (n % 10))]) f)) 26 ((l ++ [(48 + (n % 10))]).length : Int)) h0 h := hf
    exact zr_return hO dX3_writesNumber_25 (zRf_eq (by rw [show gnum 2 n = _ from gnum_small (by omega)]) hf)
  · skip
    refine zr_aload_n hO (hl := rfl) (j := 0) (hi := rfl) dX3_writesNumber_6 ?_
    refine zr_iload_n hO (hl := rfl) (j := 1) (hi := rfl) dX3_writesNumber_7 ?_
    refine zr_bipush hO (by decide) dX3_writesNumber_8 ?_
    refine zr_idiv hO (by omega) (by omega) (by omega) (by omega) dX3_writesNumber_10 ?_
    refine zr_cVv hO zc_X3 zw_X3_272 (c_X3_writesNumber1 hI hf h25 h26 (n / 10) (by omega) (by omega) (by omega)) dX3_writesNumber_11 (zrd_of hf.1) rfl (rest := []) rfl ⟨Nat.le_of_ble_eq_true rfl, Nat.le_of_ble_eq_true rfl⟩ (Nat.le_of_ble_eq_true rfl) (Nat.le_refl _) (Nat.le_refl _) (fun h hx => ?_)
    have hf : zRf r ad (zuS (zuA σ 25 (gput (l ++ gnum 1 (n / 10)) f)) 26 ((l ++ gnum 1 (n / 10)).length : Int)) h0 h := hx
    have hf : zRf r ad (zuS (zuA σ 25 (gput (l ++ gnum 1 (n / 10)) f)) 26 ((l ++ gnum 1 (n / 10)).length : Int)) h0 h := hf
    refine zr_aload_n hO (hl := rfl) (j := 0) (hi := rfl) dX3_writesNumber_14 ?_
    refine zr_bipush hO (by decide) dX3_writesNumber_15 ?_
    refine zr_iload_n hO (hl := rfl) (j := 1) (hi := rfl) dX3_writesNumber_17 ?_
    refine zr_bipush hO (by decide) dX3_writesNumber_18 ?_
    refine zr_irem hO (by omega) (by omega) (by omega) (by omega) dX3_writesNumber_20 ?_
    refine zr_iadd hO dX3_writesNumber_21 ?_
    refine zr_cVv hO zc_X3 zw_X3_275 (c_X3_writesByte hI hf ((zuS_2 (zuA σ 25 (gput (l ++ gnum 1 (n / 10)) f)) 26 ((l ++ gnum 1 (n / 10)).length : Int) 25).trans (zuA_at σ 25 (gput (l ++ gnum 1 (n / 10)) f))) (zuS_at (zuA σ 25 (gput (l ++ gnum 1 (n / 10)) f)) 26 ((l ++ gnum 1 (n / 10)).length : Int)) (48 + (n % 10)) (by omega) (by omega) (by have := gnum_len 1 (n / 10); first | omega | (rw [List.length_append]; omega))) dX3_writesNumber_22 (zrd_of hf.1) rfl (rest := []) rfl ⟨Nat.le_of_ble_eq_true rfl, Nat.le_of_ble_eq_true rfl⟩ (Nat.le_of_ble_eq_true rfl) (Nat.le_refl _) (Nat.le_refl _) (fun h hx => ?_)
    have hf : zRf r ad (zuS (zuA (zuS (zuA σ 25 (gput (l ++ gnum 1 (n / 10)) f)) 26 ((l ++ gnum 1 (n / 10)).length : Int)) 25 (gput ((l ++ gnum 1 (n / 10)) ++ [(48 + (n % 10))]) f)) 26 (((l ++ gnum 1 (n / 10)) ++ [(48 + (n % 10))]).length : Int)) h0 h := hx
    have hf : zRf r ad (zuS (zuA σ 25 (gput ((l ++ gnum 1 (n / 10)) ++ [(48 + (n % 10))]) f)) 26 (((l ++ gnum 1 (n / 10)) ++ [(48 + (n % 10))]).length : Int)) h0 h := zRf_eq (ztx_2 _ _ _ _ _) hf
    exact zr_return hO dX3_writesNumber_25 (zRf_eq (by rw [show gnum 2 n = _ from gnum_big (by omega), ← List.append_assoc]) hf)
theorem c_X3_writesNumber3 {G : zG} {r : Nat} {ad : Nat → Nat} {h0 : zHp} (hI : zRI r ad) {σ : zS} {h : zHp} (hf : zRf r ad σ h0 h) {l : List Int} {f : Nat → Int} (h25 : σ.2 25 = gput l f) (h26 : σ.1 26 = (l.length : Int)) (n : Int) (h1 : 0 ≤ n) (h2 : n ≤ 9999) (h3 : l.length + 4 ≤ 11000) : zC G yX3_writesNumber cX3_writesNumber 2 none 4 84 0 0 [zp r, zi n] h (zPv (fun h' => zRf r ad (zuS (zuA σ 25 (gput (l ++ gnum 3 n) f)) 26 ((l ++ gnum 3 n).length : Int)) h0 h') zNo) := by
  refine zC.of zpn_X3 (Nat.le_of_ble_eq_true rfl) (L := [(0, zp r), (1, zi n)]) rfl (fun K hO => ?_)
  refine zr_iload_n hO (hl := rfl) (j := 1) (hi := rfl) dX3_writesNumber_0 ?_
  refine zr_bipush hO (by decide) dX3_writesNumber_1 ?_
  refine zr_icmp_le hO ⟨by omega, by omega⟩ ⟨by omega, by omega⟩ (tgt := 14) dX3_writesNumber_3 rfl (fun c3 => ?_) (fun c3 => ?_)
  · skip
    refine zr_aload_n hO (hl := rfl) (j := 0) (hi := rfl) dX3_writesNumber_14 ?_
    refine zr_bipush hO (by decide) dX3_writesNumber_15 ?_
    refine zr_iload_n hO (hl := rfl) (j := 1) (hi := rfl) dX3_writesNumber_17 ?_
    refine zr_bipush hO (by decide) dX3_writesNumber_18 ?_
    refine zr_irem hO (by omega) (by omega) (by omega) (by omega) dX3_writesNumber_20 ?_
    refine zr_iadd hO dX3_writesNumber_21 ?_
    refine zr_cVv hO zc_X3 zw_X3_275 (c_X3_writesByte hI hf h25 h26 (48 + (n % 10)) (by omega) (by omega) (by have := gnum_len 2 (n / 10); first | omega | (rw [List.length_append]; omega))) dX3_writesNumber_22 (zrd_of hf.1) rfl (rest := []) rfl ⟨Nat.le_of_ble_eq_true rfl, Nat.le_of_ble_eq_true rfl⟩ (Nat.le_of_ble_eq_true rfl) (Nat.le_refl _) (Nat.le_refl _) (fun h hx => ?_)
    have hf : zRf r ad (zuS (zuA σ 25 (gput (l ++ [(48 + (n % 10))]) f)) 26 ((l ++ [(48 + (n % 10))]).length : Int)) h0 h := hx
    have hf : zRf r ad (zuS (zuA σ 25 (gput (l ++ [(48 + (n % 10))]) f)) 26 ((l ++ [(48 + (n % 10))]).length : Int)) h0 h := hf
    exact zr_return hO dX3_writesNumber_25 (zRf_eq (by rw [show gnum 3 n = _ from gnum_small (by omega)]) hf)
  · skip
    refine zr_aload_n hO (hl := rfl) (j := 0) (hi := rfl) dX3_writesNumber_6 ?_
    refine zr_iload_n hO (hl := rfl) (j := 1) (hi := rfl) dX3_writesNumber_7 ?_
    refine zr_bipush hO (by decide) dX3_writesNumber_8 ?_
    refine zr_idiv hO (by omega) (by omega) (by omega) (by omega) dX3_writesNumber_10 ?_
    refine zr_cVv hO zc_X3 zw_X3_272 (c_X3_writesNumber2 hI hf h25 h26 (n / 10) (by omega) (by omega) (by omega)) dX3_writesNumber_11 (zrd_of hf.1) rfl (rest := []) rfl ⟨Nat.le_of_ble_eq_true rfl, Nat.le_of_ble_eq_true rfl⟩ (Nat.le_of_ble_eq_true rfl) (Nat.le_refl _) (Nat.le_refl _) (fun h hx => ?_)
    have hf : zRf r ad (zuS (zuA σ 25 (gput (l ++ gnum 2 (n / 10)) f)) 26 ((l ++ gnum 2 (n / 10)).length : Int)) h0 h := hx
    have hf : zRf r ad (zuS (zuA σ 25 (gput (l ++ gnum 2 (n / 10)) f)) 26 ((l ++ gnum 2 (n / 10)).length : Int)) h0 h := hf
    refine zr_aload_n hO (hl := rfl) (j := 0) (hi := rfl) dX3_writesNumber_14 ?_
    refine zr_bipush hO (by decide) dX3_writesNumber_15 ?_
    refine zr_iload_n hO (hl := rfl) (j := 1) (hi := rfl) dX3_writesNumber_17 ?_
    refine zr_bipush hO (by decide) dX3_writesNumber_18 ?_
    refine zr_irem hO (by omega) (by omega) (by omega) (by omega) dX3_writesNumber_20 ?_
    refine zr_iadd hO dX3_writesNumber_21 ?_
    refine zr_cVv hO zc_X3 zw_X3_275 (c_X3_writesByte hI hf ((zuS_2 (zuA σ 25 (gput (l ++ gnum 2 (n / 10)) f)) 26 ((l ++ gnum 2 (n / 10)).length : Int) 25).trans (zuA_at σ 25 (gput (l ++ gnum 2 (n / 10)) f))) (zuS_at (zuA σ 25 (gput (l ++ gnum 2 (n / 10)) f)) 26 ((l ++ gnum 2 (n / 10)).length : Int)) (48 + (n % 10)) (by omega) (by omega) (by have := gnum_len 2 (n / 10); first | omega | (rw [List.length_append]; omega))) dX3_writesNumber_22 (zrd_of hf.1) rfl (rest := []) rfl ⟨Nat.le_of_ble_eq_true rfl, Nat.le_of_ble_eq_true rfl⟩ (Nat.le_of_ble_eq_true rfl) (Nat.le_refl _) (Nat.le_refl _) (fun h hx => ?_)
    have hf : zRf r ad (zuS (zuA (zuS (zuA σ 25 (gput (l ++ gnum 2 (n / 10)) f)) 26 ((l ++ gnum 2 (n / 10)).length : Int)) 25 (gput ((l ++ gnum 2 (n / 10)) ++ [(48 + (n % 10))]) f)) 26 (((l ++ gnum 2 (n / 10)) ++ [(48 + (n % 10))]).length : Int)) h0 h := hx
    have hf : zRf r ad (zuS (zuA σ 25 (gput ((l ++ gnum 2 (n / 10)) ++ [(48 + (n % 10))]) f)) 26 (((l ++ gnum 2 (n / 10)) ++ [(48 + (n % 10))]).length : Int)) h0 h := zRf_eq (ztx_2 _ _ _ _ _) hf
    exact zr_return hO dX3_writesNumber_25 (zRf_eq (by rw [show gnum 3 n = _ from gnum_big (by omega), ← List.append_assoc]) hf)
theorem c_X3_writesNumber4 {G : zG} {r : Nat} {ad : Nat → Nat} {h0 : zHp} (hI : zRI r ad) {σ : zS} {h : zHp} (hf : zRf r ad σ h0 h) {l : List Int} {f : Nat → Int} (h25 : σ.2 25 = gput l f) (h26 : σ.1 26 = (l.length : Int)) (n : Int) (h1 : 0 ≤ n) (h2 : n ≤ 99999) (h3 : l.length + 5 ≤ 11000) : zC G yX3_writesNumber cX3_writesNumber 2 none 5 105 0 0 [zp r, zi n] h (zPv (fun h' => zRf r ad (zuS (zuA σ 25 (gput (l ++ gnum 4 n) f)) 26 ((l ++ gnum 4 n).length : Int)) h0 h') zNo) := by
  refine zC.of zpn_X3 (Nat.le_of_ble_eq_true rfl) (L := [(0, zp r), (1, zi n)]) rfl (fun K hO => ?_)
  refine zr_iload_n hO (hl := rfl) (j := 1) (hi := rfl) dX3_writesNumber_0 ?_
  refine zr_bipush hO (by decide) dX3_writesNumber_1 ?_
  refine zr_icmp_le hO ⟨by omega, by omega⟩ ⟨by omega, by omega⟩ (tgt := 14) dX3_writesNumber_3 rfl (fun c3 => ?_) (fun c3 => ?_)
  · skip
    refine zr_aload_n hO (hl := rfl) (j := 0) (hi := rfl) dX3_writesNumber_14 ?_
    refine zr_bipush hO (by decide) dX3_writesNumber_15 ?_
    refine zr_iload_n hO (hl := rfl) (j := 1) (hi := rfl) dX3_writesNumber_17 ?_
    refine zr_bipush hO (by decide) dX3_writesNumber_18 ?_
    refine zr_irem hO (by omega) (by omega) (by omega) (by omega) dX3_writesNumber_20 ?_
    refine zr_iadd hO dX3_writesNumber_21 ?_
    refine zr_cVv hO zc_X3 zw_X3_275 (c_X3_writesByte hI hf h25 h26 (48 + (n % 10)) (by omega) (by omega) (by have := gnum_len 3 (n / 10); first | omega | (rw [List.length_append]; omega))) dX3_writesNumber_22 (zrd_of hf.1) rfl (rest := []) rfl ⟨Nat.le_of_ble_eq_true rfl, Nat.le_of_ble_eq_true rfl⟩ (Nat.le_of_ble_eq_true rfl) (Nat.le_refl _) (Nat.le_refl _) (fun h hx => ?_)
    have hf : zRf r ad (zuS (zuA σ 25 (gput (l ++ [(48 + (n % 10))]) f)) 26 ((l ++ [(48 + (n % 10))]).length : Int)) h0 h := hx
    have hf : zRf r ad (zuS (zuA σ 25 (gput (l ++ [(48 + (n % 10))]) f)) 26 ((l ++ [(48 + (n % 10))]).length : Int)) h0 h := hf
    exact zr_return hO dX3_writesNumber_25 (zRf_eq (by rw [show gnum 4 n = _ from gnum_small (by omega)]) hf)
  · skip
    refine zr_aload_n hO (hl := rfl) (j := 0) (hi := rfl) dX3_writesNumber_6 ?_
    refine zr_iload_n hO (hl := rfl) (j := 1) (hi := rfl) dX3_writesNumber_7 ?_
    refine zr_bipush hO (by decide) dX3_writesNumber_8 ?_
    refine zr_idiv hO (by omega) (by omega) (by omega) (by omega) dX3_writesNumber_10 ?_
    refine zr_cVv hO zc_X3 zw_X3_272 (c_X3_writesNumber3 hI hf h25 h26 (n / 10) (by omega) (by omega) (by omega)) dX3_writesNumber_11 (zrd_of hf.1) rfl (rest := []) rfl ⟨Nat.le_of_ble_eq_true rfl, Nat.le_of_ble_eq_true rfl⟩ (Nat.le_of_ble_eq_true rfl) (Nat.le_refl _) (Nat.le_refl _) (fun h hx => ?_)
    have hf : zRf r ad (zuS (zuA σ 25 (gput (l ++ gnum 3 (n / 10)) f)) 26 ((l ++ gnum 3 (n / 10)).length : Int)) h0 h := hx
    have hf : zRf r ad (zuS (zuA σ 25 (gput (l ++ gnum 3 (n / 10)) f)) 26 ((l ++ gnum 3 (n / 10)).length : Int)) h0 h := hf
    refine zr_aload_n hO (hl := rfl) (j := 0) (hi := rfl) dX3_writesNumber_14 ?_
    refine zr_bipush hO (by decide) dX3_writesNumber_15 ?_
    refine zr_iload_n hO (hl := rfl) (j := 1) (hi := rfl) dX3_writesNumber_17 ?_
    refine zr_bipush hO (by decide) dX3_writesNumber_18 ?_
    refine zr_irem hO (by omega) (by omega) (by omega) (by omega) dX3_writesNumber_20 ?_
    refine zr_iadd hO dX3_writesNumber_21 ?_
    refine zr_cVv hO zc_X3 zw_X3_275 (c_X3_writesByte hI hf ((zuS_2 (zuA σ 25 (gput (l ++ gnum 3 (n / 10)) f)) 26 ((l ++ gnum 3 (n / 10)).length : Int) 25).trans (zuA_at σ 25 (gput (l ++ gnum 3 (n / 10)) f))) (zuS_at (zuA σ 25 (gput (l ++ gnum 3 (n / 10)) f)) 26 ((l ++ gnum 3 (n / 10)).length : Int)) (48 + (n % 10)) (by omega) (by omega) (by have := gnum_len 3 (n / 10); first | omega | (rw [List.length_append]; omega))) dX3_writesNumber_22 (zrd_of hf.1) rfl (rest := []) rfl ⟨Nat.le_of_ble_eq_true rfl, Nat.le_of_ble_eq_true rfl⟩ (Nat.le_of_ble_eq_true rfl) (Nat.le_refl _) (Nat.le_refl _) (fun h hx => ?_)
    have hf : zRf r ad (zuS (zuA (zuS (zuA σ 25 (gput (l ++ gnum 3 (n / 10)) f)) 26 ((l ++ gnum 3 (n / 10)).length : Int)) 25 (gput ((l ++ gnum 3 (n / 10)) ++ [(48 + (n % 10))]) f)) 26 (((l ++ gnum 3 (n / 10)) ++ [(48 + (n % 10))]).length : Int)) h0 h := hx
    have hf : zRf r ad (zuS (zuA σ 25 (gput ((l ++ gnum 3 (n / 10)) ++ [(48 + (n % 10))]) f)) 26 (((l ++ gnum 3 (n / 10)) ++ [(48 + (n % 10))]).length : Int)) h0 h := zRf_eq (ztx_2 _ _ _ _ _) hf
    exact zr_return hO dX3_writesNumber_25 (zRf_eq (by rw [show gnum 4 n = _ from gnum_big (by omega), ← List.append_assoc]) hf)
theorem c_X3_writes {G : zG} {r : Nat} {ad : Nat → Nat} {h0 : zHp} (hI : zRI r ad) {σ : zS} {h : zHp} (hf : zRf r ad σ h0 h) {g : Nat → Int} (hg : σ.2 1 = g) {l : List Int} {f : Nat → Int} (h25 : σ.2 25 = gput l f) (h26 : σ.1 26 = (l.length : Int)) (n : Int) (h1 : 1 ≤ n) (h2 : n ≤ g 0) (h3 : l.length + 31 ≤ 11000) (hd : zHd g (gcl g) σ) (hch : zwc g) (hw : zwf g) : zC G yX3_writes cX3_writes 3 none 6 126 0 0 [zp r, zi n] h (zPv (fun h' => zRf r ad (zuS (zuA σ 25 (gput (l ++ gwr g n) f)) 26 ((l ++ gwr g n).length : Int)) h0 h') zNo) := by
  refine zC.of zpn_X3 (Nat.le_of_ble_eq_true rfl) (L := [(0, zp r), (1, zi n)]) rfl (fun K hO => ?_)
  obtain ⟨w1, w2, w3⟩ := id hw
  have w3n := w3 n (by omega) (by omega)
  have hnl := gnm4_l n
  refine zr_aload_n hO (hl := rfl) (j := 0) (hi := rfl) dX3_writes_0 ?_
  refine zr_iload_n hO (hl := rfl) (j := 1) (hi := rfl) dX3_writes_1 ?_
  refine zr_cVv hO zc_X3 zw_X3_272 (c_X3_writesNumber4 hI hf h25 h26 n (by omega) (by omega) (by omega)) dX3_writes_2 (zrd_of hf.1) rfl (rest := []) rfl ⟨Nat.le_of_ble_eq_true rfl, Nat.le_of_ble_eq_true rfl⟩ (Nat.le_of_ble_eq_true rfl) (Nat.le_refl _) (Nat.le_refl _) (fun h hx => ?_)
  have hf : zRf r ad (zuS (zuA σ 25 (gput (l ++ gnum 4 n) f)) 26 ((l ++ gnum 4 n).length : Int)) h0 h := hx
  have hf : zRf r ad (zuS (zuA σ 25 (gput (l ++ gnum 4 n) f)) 26 ((l ++ gnum 4 n).length : Int)) h0 h := hf
  have hj21 : ∀ (c : Int) (hc : (if 0 < ghb (ghH g (gcl g)) (g 0) n then 43 else 58) = c) (h : zHp) (hf : zRf r ad (zuS (zuA σ 25 (gput (l ++ gnum 4 n) f)) 26 ((l ++ gnum 4 n).length : Int)) h0 h), zV G K 0 0 h 21 [(0, zp r), (1, zi n)] [zi c, zp r] := by
    intro c hc h hf
    have hcr : c = 43 ∨ c = 58 := by rw [← hc]; split; exact Or.inl rfl; exact Or.inr rfl
    refine zr_cVv hO zc_X3 zw_X3_275 (c_X3_writesByte hI hf ((zuS_2 (zuA σ 25 (gput (l ++ gnum 4 n) f)) 26 ((l ++ gnum 4 n).length : Int) 25).trans (zuA_at σ 25 (gput (l ++ gnum 4 n) f))) (zuS_at (zuA σ 25 (gput (l ++ gnum 4 n) f)) 26 ((l ++ gnum 4 n).length : Int)) c (by omega) (by omega) (by rw [List.length_append]; unfold gnm4 at hnl; omega)) dX3_writes_21 (zrd_of hf.1) rfl (rest := []) rfl ⟨Nat.le_of_ble_eq_true rfl, Nat.le_of_ble_eq_true rfl⟩ (Nat.le_of_ble_eq_true rfl) (Nat.le_refl _) (Nat.le_refl _) (fun h hx => ?_)
    have hf : zRf r ad (zuS (zuA (zuS (zuA σ 25 (gput (l ++ gnum 4 n) f)) 26 ((l ++ gnum 4 n).length : Int)) 25 (gput ((l ++ gnum 4 n) ++ [c]) f)) 26 (((l ++ gnum 4 n) ++ [c]).length : Int)) h0 h := hx
    have hf : zRf r ad (zuS (zuA σ 25 (gput ((l ++ gnum 4 n) ++ [c]) f)) 26 (((l ++ gnum 4 n) ++ [c]).length : Int)) h0 h := zRf_eq (ztx_2 _ _ _ _ _) hf
    refine zr_iconst hO dX3_writes_24 ?_
    refine zr_istore_n hO (L' := [(2, zi 0), (0, zp r), (1, zi n)]) (hi := rfl) dX3_writes_25 (Nat.le_of_ble_eq_true rfl) rfl ?_
    have hl26 : ∀ (n9 : Nat) (k : Int), (gln g n - k).toNat = n9 → ∀ (i1 : 0 ≤ k) (i2 : k ≤ gln g n) (h : zHp) (hf : zRf r ad (zuS (zuA σ 25 (gput (((l ++ gnum 4 n) ++ [c]) ++ gtx g n k.toNat) f)) 26 ((((l ++ gnum 4 n) ++ [c]) ++ gtx g n k.toNat).length : Int)) h0 h), zV G K 0 0 h 26 [(0, zp r), (1, zi n), (2, zi k)] [] := by
      intro n9
      induction n9 using Nat.strongRecOn with
      | _ n9 ih26 =>
      intro k hn26 i1 i2 h hf
      refine zr_iload_n hO (hl := rfl) (j := 2) (hi := rfl) dX3_writes_26 ?_
      refine zr_aload_n hO (hl := rfl) (j := 0) (hi := rfl) dX3_writes_27 ?_
      refine zr_iload_n hO (hl := rfl) (j := 1) (hi := rfl) dX3_writes_28 ?_
      refine zr_cVi hO zc_X3 zw_X3_139 (c_X3_length hI hf hg n (by omega) (by omega)) dX3_writes_29 (zrd_of hf.1) rfl (rest := [zi k]) rfl ⟨Nat.le_of_ble_eq_true rfl, Nat.le_of_ble_eq_true rfl⟩ (Nat.le_of_ble_eq_true rfl) (Nat.le_refl _) (Nat.le_refl _) (fun x h hx => ?_)
      obtain ⟨hx, ⟨r3a, r3b⟩, hf⟩ := hx
      have hx : x = gln g n := hx
      subst hx
      refine zr_icmp_ge hO ⟨by omega, by omega⟩ ⟨by omega, by omega⟩ (tgt := 51) dX3_writes_32 rfl (fun c32 => ?_) (fun c32 => ?_)
      · skip
        exact zr_return hO dX3_writes_51 (zRf_eq (by unfold gwr gnm4; rw [hc, show k = gln g n by omega, List.append_assoc, List.append_assoc, List.append_assoc]) hf)
      · skip
        refine zr_aload_n hO (hl := rfl) (j := 0) (hi := rfl) dX3_writes_35 ?_
        refine zr_aload_n hO (hl := rfl) (j := 0) (hi := rfl) dX3_writes_36 ?_
        refine zr_iload_n hO (hl := rfl) (j := 1) (hi := rfl) dX3_writes_37 ?_
        refine zr_iload_n hO (hl := rfl) (j := 2) (hi := rfl) dX3_writes_38 ?_
        refine zr_cVi hO zc_X3 zw_X3_133 (c_X3_byteAt hI hf hg n k (by omega) (by omega) (by omega) (by omega)) dX3_writes_39 (zrd_of hf.1) rfl (rest := [zp r]) rfl ⟨Nat.le_of_ble_eq_true rfl, Nat.le_of_ble_eq_true rfl⟩ (Nat.le_of_ble_eq_true rfl) (Nat.le_refl _) (Nat.le_refl _) (fun x h hx => ?_)
        obtain ⟨hx, ⟨r4a, r4b⟩, hf⟩ := hx
        have hx : x = gch g n k := hx
        subst hx
        refine zr_cVv hO zc_X3 zw_X3_275 (c_X3_writesByte hI hf ((zuS_2 (zuA σ 25 (gput (((l ++ gnum 4 n) ++ [c]) ++ gtx g n k.toNat) f)) 26 ((((l ++ gnum 4 n) ++ [c]) ++ gtx g n k.toNat).length : Int) 25).trans (zuA_at σ 25 (gput (((l ++ gnum 4 n) ++ [c]) ++ gtx g n k.toNat) f))) (zuS_at (zuA σ 25 (gput (((l ++ gnum 4 n) ++ [c]) ++ gtx g n k.toNat) f)) 26 ((((l ++ gnum 4 n) ++ [c]) ++ gtx g n k.toNat).length : Int)) (gch g n k) (by have := hch n k (by omega) (by omega) (by omega) (by omega); omega) (by have := hch n k (by omega) (by omega) (by omega) (by omega); omega) (by rw [List.length_append, List.length_append, List.length_append, gtx_len]; simp only [List.length_cons, List.length_nil]; unfold gnm4 at hnl; omega)) dX3_writes_42 (zrd_of hf.1) rfl (rest := []) rfl ⟨Nat.le_of_ble_eq_true rfl, Nat.le_of_ble_eq_true rfl⟩ (Nat.le_of_ble_eq_true rfl) (Nat.le_refl _) (Nat.le_refl _) (fun h hx => ?_)
        have hf : zRf r ad (zuS (zuA (zuS (zuA σ 25 (gput (((l ++ gnum 4 n) ++ [c]) ++ gtx g n k.toNat) f)) 26 ((((l ++ gnum 4 n) ++ [c]) ++ gtx g n k.toNat).length : Int)) 25 (gput ((((l ++ gnum 4 n) ++ [c]) ++ gtx g n k.toNat) ++ [(gch g n k)]) f)) 26 (((((l ++ gnum 4 n) ++ [c]) ++ gtx g n k.toNat) ++ [(gch g n k)]).length : Int)) h0 h := hx
        have hf : zRf r ad (zuS (zuA σ 25 (gput ((((l ++ gnum 4 n) ++ [c]) ++ gtx g n k.toNat) ++ [(gch g n k)]) f)) 26 (((((l ++ gnum 4 n) ++ [c]) ++ gtx g n k.toNat) ++ [(gch g n k)]).length : Int)) h0 h := zRf_eq (ztx_2 _ _ _ _ _) hf
        refine zr_iinc hO (L' := [(2, zi (k + 1)), (0, zp r), (1, zi n)]) (j := 2) dX3_writes_45 rfl (Nat.le_of_ble_eq_true rfl) rfl ?_
        refine zr_goto hO (tgt := 26) dX3_writes_48 rfl ?_
        refine zV.loc [1, 2, 0] rfl ?_
        exact ih26 _ (by omega) (k + 1) rfl (by omega) (by omega) h (zRf_eq (by rw [show (k + 1).toNat = k.toNat + 1 by omega, gtx, Int.toNat_of_nonneg i1, List.append_assoc]) hf)
    refine zV.loc [1, 2, 0] rfl ?_
    exact hl26 _ 0 rfl (by omega) (by omega) h (zRf_eq (by rw [show (0 : Int).toNat = 0 from rfl, gtx, List.append_nil]) hf)
  refine zr_aload_n hO (hl := rfl) (j := 0) (hi := rfl) dX3_writes_5 ?_
  refine zr_aload_n hO (hl := rfl) (j := 0) (hi := rfl) dX3_writes_6 ?_
  refine zr_iload_n hO (hl := rfl) (j := 1) (hi := rfl) dX3_writes_7 ?_
  refine zr_cVi hO zc_X3 zw_X3_180 (c_X3_hiddenBehind hI hf hg ((zuS_2 (zuA σ 25 (gput (l ++ gnum 4 n) f)) 26 ((l ++ gnum 4 n).length : Int) 21).trans (zuA_ne σ 25 (gput (l ++ gnum 4 n) f) (j := 21) (by decide))) n (by omega) (by omega) (by omega) (by omega)) dX3_writes_8 (zrd_of hf.1) rfl (rest := [zp r]) rfl ⟨Nat.le_of_ble_eq_true rfl, Nat.le_of_ble_eq_true rfl⟩ (Nat.le_of_ble_eq_true rfl) (Nat.le_refl _) (Nat.le_refl _) (fun x h hx => ?_)
  obtain ⟨hx, hf⟩ := hx
  have hx : x = ghb (σ.2 21) (g 0) n := hx
  subst hx
  have hgb := ghb_in (ghH g (gcl g)) (N := g 0) (m := n) (by omega)
  rw [show (ghb (σ.2 21) (g 0) n) = ghb (ghH g (gcl g)) (g 0) n from ghb_of hd (by omega) (by omega)]
  refine zr_if_le hO ⟨by omega, by omega⟩ (tgt := 19) dX3_writes_11 rfl (fun c11 => ?_) (fun c11 => ?_)
  · skip
    refine zr_bipush hO (by decide) dX3_writes_19 ?_
    exact hj21 58 (if_neg (by omega)) h hf
  · skip
    refine zr_bipush hO (by decide) dX3_writes_14 ?_
    refine zr_goto hO (tgt := 21) dX3_writes_16 rfl ?_
    exact hj21 43 (if_pos (by omega)) h hf
theorem zw_X3_278 : zYw RX3 RX3 278 yX3_writes cX3_writes 3 none 1 := ⟨q3408, q3410, qs85, q116, q3411, rfl, ⟨by decide +kernel, by decide +kernel, by decide +kernel⟩⟩
theorem c_X3_writeLine {G : zG} {r : Nat} {ad : Nat → Nat} {h0 : zHp} (hI : zRI r ad) {σ : zS} {h : zHp} (hf : zRf r ad σ h0 h) {g : Nat → Int} (hg : σ.2 1 = g) (n : Int) (hn : zR n) (hch : zwc g) (hw : zwf g) : zC G yX3_writeLine cX3_writeLine 2 (some Jvm.ClassFile.FieldType.int) 7 157 0 0 [zp r, zi n] h (zPi (fun x h' => x = (if 1 ≤ n ∧ n ≤ g 0 then ((gwr g n).length : Int) else 0) ∧ ∃ τ : zS, τ.1 0 = (1 - zB (1 ≤ n ∧ n ≤ g 0)) ∧ zCo (if 1 ≤ n ∧ n ≤ g 0 then zuS (zuA σ 25 (gput (gwr g n) (σ.2 25))) 26 ((gwr g n).length : Int) else σ) τ ∧ zRf r ad τ h0 h') zNo) := by
  refine zC.of zpn_X3 (Nat.le_of_ble_eq_true rfl) (L := [(0, zp r), (1, zi n)]) rfl (fun K hO => ?_)
  obtain ⟨w1, w2, w3⟩ := id hw
  obtain ⟨hna, hnb⟩ := hn
  refine zr_aload_n hO (hl := rfl) (j := 0) (hi := rfl) dX3_writeLine_0 ?_
  refine zr_aload_n hO (hl := rfl) (j := 0) (hi := rfl) dX3_writeLine_1 ?_
  refine zr_iload_n hO (hl := rfl) (j := 1) (hi := rfl) dX3_writeLine_2 ?_
  refine zr_cVi hO zc_X3 zw_X3_167 (c_X3_isLine hI hf hg n (⟨by omega, by omega⟩)) dX3_writeLine_3 (zrd_of hf.1) rfl (rest := [zp r]) rfl ⟨Nat.le_of_ble_eq_true rfl, Nat.le_of_ble_eq_true rfl⟩ (Nat.le_of_ble_eq_true rfl) (Nat.le_refl _) (Nat.le_refl _) (fun x h hx => ?_)
  obtain ⟨hx, hf⟩ := hx
  have hx : x = zB (1 ≤ n ∧ n ≤ g 0) := hx
  subst hx
  refine zr_cVi hO zc_X3 zw_X3_111 (c_X3_may hI hf (zB (1 ≤ n ∧ n ≤ g 0)) (zB_01 _)) dX3_writeLine_6 (zrd_of hf.1) rfl (rest := []) rfl ⟨Nat.le_of_ble_eq_true rfl, Nat.le_of_ble_eq_true rfl⟩ (Nat.le_of_ble_eq_true rfl) (Nat.le_refl _) (Nat.le_refl _) (fun x h hx => ?_)
  obtain ⟨hx, hf⟩ := hx
  have hx : x = (zB (1 ≤ n ∧ n ≤ g 0)) := hx
  subst hx
  have hf : zRf r ad (zuS σ 0 (1 - (zB (1 ≤ n ∧ n ≤ g 0)))) h0 h := hf
  refine zr_if_ne hO (zR_B _) (tgt := 14) dX3_writeLine_9 rfl (fun c9 => ?_) (fun c9 => ?_)
  · skip
    have c9 := zB_ne c9
    refine zr_aload_n hO (hl := rfl) (j := 0) (hi := rfl) dX3_writeLine_14 ?_
    refine zr_cVv hO zc_X3 zw_X3_174 (c_X3_layAll hI hf hg  (hw)) dX3_writeLine_15 (zrd_of hf.1) rfl (rest := []) rfl ⟨Nat.le_of_ble_eq_true rfl, Nat.le_of_ble_eq_true rfl⟩ (Nat.le_of_ble_eq_true rfl) (Nat.le_refl _) (Nat.le_refl _) (fun h hx => ?_)
    obtain ⟨τ1, hs1, hd1, hf⟩ := hx
    refine zr_aload_n hO (hl := rfl) (j := 0) (hi := rfl) dX3_writeLine_18 ?_
    refine zr_iconst hO dX3_writeLine_19 ?_
    refine zs_put hO hI hf 26 dX3_writeLine_20 q2996 (Nat.le_of_ble_eq_true rfl) rfl rfl rfl ⟨by omega, by omega⟩ (fun h hf => ?_)
    have hf : zRf r ad (zuS (zuA τ1 25 (gput ([] : List Int) (σ.2 25))) 26 (([] : List Int).length : Int)) h0 h := zRf_eq (by rw [gput_nil, zuA_id' (σ := τ1) (f := σ.2 25) 25 ((hs1.2 25 rfl).trans (zuS_2 σ 0 (1 - (zB (1 ≤ n ∧ n ≤ g 0))) 25))]; rfl) hf
    refine zr_aload_n hO (hl := rfl) (j := 0) (hi := rfl) dX3_writeLine_23 ?_
    refine zr_iload_n hO (hl := rfl) (j := 1) (hi := rfl) dX3_writeLine_24 ?_
    refine zr_cVv hO zc_X3 zw_X3_278 (c_X3_writes hI hf ((hs1.2 1 rfl).trans hg) ((zuS_2 (zuA τ1 25 (gput ([] : List Int) (σ.2 25))) 26 (([] : List Int).length : Int) 25).trans (zuA_at τ1 25 (gput ([] : List Int) (σ.2 25)))) (zuS_at (zuA τ1 25 (gput ([] : List Int) (σ.2 25))) 26 (([] : List Int).length : Int)) n (by omega) (by omega) (by simp) (hd1.2.2) (hch) (hw)) dX3_writeLine_25 (zrd_of hf.1) rfl (rest := []) rfl ⟨Nat.le_of_ble_eq_true rfl, Nat.le_of_ble_eq_true rfl⟩ (Nat.le_of_ble_eq_true rfl) (Nat.le_refl _) (Nat.le_refl _) (fun h hx => ?_)
    have hf : zRf r ad (zuS (zuA (zuS (zuA τ1 25 (gput ([] : List Int) (σ.2 25))) 26 (([] : List Int).length : Int)) 25 (gput (([] : List Int) ++ gwr g n) (σ.2 25))) 26 ((([] : List Int) ++ gwr g n).length : Int)) h0 h := hx
    have hf : zRf r ad (zuS (zuA τ1 25 (gput (([] : List Int) ++ gwr g n) (σ.2 25))) 26 ((([] : List Int) ++ gwr g n).length : Int)) h0 h := zRf_eq (ztx_2 _ _ _ _ _) hf
    refine zr_aload_n hO (hl := rfl) (j := 0) (hi := rfl) dX3_writeLine_28 ?_
    refine zs_get hO hf 26 (x := ((([] : List Int) ++ gwr g n).length : Int)) dX3_writeLine_29 q2996 (Nat.le_of_ble_eq_true rfl) rfl (fun ⟨r4a, r4b⟩ => ?_)
    exact zr_ireturn hO dX3_writeLine_32 ⟨(by rw [if_pos c9, List.nil_append]), (zuS (zuA τ1 25 (gput (([] : List Int) ++ gwr g n) (σ.2 25))) 26 ((([] : List Int) ++ gwr g n).length : Int)), (((hs1.1 0 (by decide) (by decide)).trans rfl)), (by rw [if_pos c9]; exact (((((zCo.refl σ).uS (k := 0) (by decide) (1 - (zB (1 ≤ n ∧ n ≤ g 0)))).tr hs1).cA 25 (gput (([] : List Int) ++ gwr g n) (σ.2 25))).cS 26 ((([] : List Int) ++ gwr g n).length : Int))), hf⟩
  · skip
    have c9 := zB_eq c9
    refine zr_iconst hO dX3_writeLine_12 ?_
    exact zr_ireturn hO dX3_writeLine_13 ⟨(by rw [if_neg c9]), (zuS σ 0 (1 - (zB (1 ≤ n ∧ n ≤ g 0)))), (rfl), (by rw [if_neg c9]; exact ((zCo.refl σ).uS (k := 0) (by decide) (1 - (zB (1 ≤ n ∧ n ≤ g 0))))), hf⟩
theorem c_X3_writeRows {G : zG} {r : Nat} {ad : Nat → Nat} {h0 : zHp} (hI : zRI r ad) {σ : zS} {h : zHp} (hf : zRf r ad σ h0 h) {g : Nat → Int} (hg : σ.2 1 = g) (m : Int) (k : Int) (hm : zR m) (hk : zR k) (hch : zwc g) (hw : zwf g) : zC G yX3_writeRows cX3_writeRows 5 (some Jvm.ClassFile.FieldType.int) 7 157 0 0 [zp r, zi m, zi k] h (zPi (fun x h' => x = (if (1 ≤ m ∧ m ≤ grow g (gcl g) (g 0)) ∧ 1 ≤ k then ((gwrs g m (min k (grow g (gcl g) (g 0) - m + 1)).toNat).length : Int) else 0) ∧ ∃ τ : zS, τ.1 0 = (if zB (1 ≤ m ∧ m ≤ grow g (gcl g) (g 0)) = 0 then 1 else 2 - 2 * zB (1 ≤ k)) ∧ zCo (if (1 ≤ m ∧ m ≤ grow g (gcl g) (g 0)) ∧ 1 ≤ k then zuS (zuA σ 25 (gput (gwrs g m (min k (grow g (gcl g) (g 0) - m + 1)).toNat) (σ.2 25))) 26 ((gwrs g m (min k (grow g (gcl g) (g 0) - m + 1)).toNat).length : Int) else σ) τ ∧ zRf r ad τ h0 h') zNo) := by
  refine zC.of zpn_X3 (Nat.le_of_ble_eq_true rfl) (L := [(0, zp r), (1, zi m), (2, zi k)]) rfl (fun K hO => ?_)
  obtain ⟨w1, w2, w3⟩ := id hw
  obtain ⟨hma, hmb⟩ := hm
  obtain ⟨hka, hkb⟩ := hk
  have hgi := grow_in g (gcl g) (N := g 0) (by omega)
  refine zr_aload_n hO (hl := rfl) (j := 0) (hi := rfl) dX3_writeRows_0 ?_
  refine zr_cVv hO zc_X3 zw_X3_174 (c_X3_layAll hI hf hg  (hw)) dX3_writeRows_1 (zrd_of hf.1) rfl (rest := []) rfl ⟨Nat.le_of_ble_eq_true rfl, Nat.le_of_ble_eq_true rfl⟩ (Nat.le_of_ble_eq_true rfl) (Nat.le_refl _) (Nat.le_refl _) (fun h hx => ?_)
  obtain ⟨τ1, hs1, hd1, hf⟩ := hx
  refine zr_aload_n hO (hl := rfl) (j := 0) (hi := rfl) dX3_writeRows_4 ?_
  refine zr_cVi hO zc_X3 zw_X3_195 (c_X3_shownMany hI hf ((hs1.2 1 rfl).trans hg) (rfl : τ1.2 21 = (τ1.2 21))  (by omega) (by omega)) dX3_writeRows_5 (zrd_of hf.1) rfl (rest := []) rfl ⟨Nat.le_of_ble_eq_true rfl, Nat.le_of_ble_eq_true rfl⟩ (Nat.le_of_ble_eq_true rfl) (Nat.le_refl _) (Nat.le_refl _) (fun x h hx => ?_)
  obtain ⟨hx, hf⟩ := hx
  have hx : x = gshn ((τ1.2 21)) (g 0) := hx
  subst hx
  rw [show (gshn ((τ1.2 21)) (g 0)) = grow g (gcl g) (g 0) from gshn_of hd1.2.2 (by omega)]
  refine zr_istore_n hO (L' := [(3, zi (grow g (gcl g) (g 0))), (0, zp r), (1, zi m), (2, zi k)]) (hi := rfl) dX3_writeRows_8 (Nat.le_of_ble_eq_true rfl) rfl ?_
  have hj26 : ∀ (b : Int) (hb : b = zB (1 ≤ k)) (h : zHp) (hf : zRf r ad τ1 h0 h), zV G K 0 0 h 26 [(3, zi (grow g (gcl g) (g 0))), (0, zp r), (1, zi m), (2, zi k)] [zi b, zi (zB (1 ≤ m ∧ m ≤ grow g (gcl g) (g 0))), zp r] := by
    intro b hb h hf
    subst hb
    refine zr_cVi hO zc_X3 zw_X3_170 (c_X3_mayBoth hI hf (zB (1 ≤ m ∧ m ≤ grow g (gcl g) (g 0))) (zB (1 ≤ k)) (zB_01 _) (zB_01 _)) dX3_writeRows_26 (zrd_of hf.1) rfl (rest := []) rfl ⟨Nat.le_of_ble_eq_true rfl, Nat.le_of_ble_eq_true rfl⟩ (Nat.le_of_ble_eq_true rfl) (Nat.le_refl _) (Nat.le_refl _) (fun x h hx => ?_)
    obtain ⟨hx, hf⟩ := hx
    have hx : x = zB ((zB (1 ≤ m ∧ m ≤ grow g (gcl g) (g 0))) = 1 ∧ (zB (1 ≤ k)) = 1) := hx
    subst hx
    have hf : zRf r ad (zuS τ1 0 (if (zB (1 ≤ m ∧ m ≤ grow g (gcl g) (g 0))) = 0 then 1 else 2 - 2 * (zB (1 ≤ k)))) h0 h := hf
    rw [show (zB ((zB (1 ≤ m ∧ m ≤ grow g (gcl g) (g 0))) = 1 ∧ (zB (1 ≤ k)) = 1)) = zB ((1 ≤ m ∧ m ≤ grow g (gcl g) (g 0)) ∧ 1 ≤ k) from zB_and _ _]
    refine zr_if_ne hO (zR_B _) (tgt := 34) dX3_writeRows_29 rfl (fun c29 => ?_) (fun c29 => ?_)
    · skip
      have c29 := zB_ne c29
      refine zr_aload_n hO (hl := rfl) (j := 1) (hi := rfl) dX3_writeRows_34 ?_
      refine zr_iconst hO dX3_writeRows_35 ?_
      refine zs_put hO hI hf 26 dX3_writeRows_36 q2996 (Nat.le_of_ble_eq_true rfl) rfl rfl rfl ⟨by omega, by omega⟩ (fun h hf => ?_)
      have hf : zRf r ad (zuS (zuA (zuS τ1 0 (if (zB (1 ≤ m ∧ m ≤ grow g (gcl g) (g 0))) = 0 then 1 else 2 - 2 * (zB (1 ≤ k)))) 25 (gput ([] : List Int) (σ.2 25))) 26 (([] : List Int).length : Int)) h0 h := zRf_eq (by rw [gput_nil, zuA_id' (σ := (zuS τ1 0 (if (zB (1 ≤ m ∧ m ≤ grow g (gcl g) (g 0))) = 0 then 1 else 2 - 2 * (zB (1 ≤ k))))) (f := σ.2 25) 25 ((hs1.2 25 rfl).trans (rfl : σ.2 25 = (σ.2 25)))]; rfl) hf
      refine zr_iconst hO dX3_writeRows_39 ?_
      refine zr_istore hO (L' := [(4, zi 0), (3, zi (grow g (gcl g) (g 0))), (0, zp r), (1, zi m), (2, zi k)]) dX3_writeRows_40 (Nat.le_of_ble_eq_true rfl) rfl ?_
      have hl42 : ∀ (n9 : Nat) (j : Int), (k - j).toNat = n9 → ∀ (i1 : 0 ≤ j) (i2 : j ≤ k) (i3 : m + j ≤ grow g (gcl g) (g 0) + 1) (h : zHp) (hf : zRf r ad (zuS (zuA (zuS τ1 0 (if (zB (1 ≤ m ∧ m ≤ grow g (gcl g) (g 0))) = 0 then 1 else 2 - 2 * (zB (1 ≤ k)))) 25 (gput (gwrs g m j.toNat) (σ.2 25))) 26 ((gwrs g m j.toNat).length : Int)) h0 h), zV G K 0 0 h 42 [(0, zp r), (1, zi m), (2, zi k), (3, zi (grow g (gcl g) (g 0))), (4, zi j)] [] := by
        intro n9
        induction n9 using Nat.strongRecOn with
        | _ n9 ih42 =>
        intro j hn42 i1 i2 i3 h hf
        refine zr_iload hO (hl := rfl) (j := 4) dX3_writeRows_42 ?_
        refine zr_iload_n hO (hl := rfl) (j := 2) (hi := rfl) dX3_writeRows_44 ?_
        refine zr_icmp_ge hO ⟨by omega, by omega⟩ ⟨by omega, by omega⟩ (tgt := 85) dX3_writeRows_45 rfl (fun c45 => ?_) (fun c45 => ?_)
        · skip
          refine zr_aload_n hO (hl := rfl) (j := 0) (hi := rfl) dX3_writeRows_85 ?_
          refine zs_get hO hf 26 (x := ((gwrs g m j.toNat).length : Int)) dX3_writeRows_86 q2996 (Nat.le_of_ble_eq_true rfl) rfl (fun ⟨r3a, r3b⟩ => ?_)
          exact zr_ireturn hO dX3_writeRows_89 ⟨(by rw [if_pos c29, show (min k (grow g (gcl g) (g 0) - m + 1)).toNat = j.toNat by omega]), (zuS (zuA (zuS τ1 0 (if (zB (1 ≤ m ∧ m ≤ grow g (gcl g) (g 0))) = 0 then 1 else 2 - 2 * (zB (1 ≤ k)))) 25 (gput (gwrs g m j.toNat) (σ.2 25))) 26 ((gwrs g m j.toNat).length : Int)), (rfl), (by rw [if_pos c29, show (min k (grow g (gcl g) (g 0) - m + 1)).toNat = j.toNat by omega]; exact (((((zCo.refl σ).tr hs1).uS (k := 0) (by decide) (if (zB (1 ≤ m ∧ m ≤ grow g (gcl g) (g 0))) = 0 then 1 else 2 - 2 * (zB (1 ≤ k)))).cA 25 (gput (gwrs g m j.toNat) (σ.2 25))).cS 26 ((gwrs g m j.toNat).length : Int))), hf⟩
        · skip
          refine zr_iload_n hO (hl := rfl) (j := 1) (hi := rfl) dX3_writeRows_48 ?_
          refine zr_iload hO (hl := rfl) (j := 4) dX3_writeRows_49 ?_
          refine zr_iadd hO dX3_writeRows_51 ?_
          refine zr_iload_n hO (hl := rfl) (j := 3) (hi := rfl) dX3_writeRows_52 ?_
          refine zr_icmp_gt hO ⟨by omega, by omega⟩ ⟨by omega, by omega⟩ (tgt := 85) dX3_writeRows_53 rfl (fun c53 => ?_) (fun c53 => ?_)
          · skip
            refine zr_aload_n hO (hl := rfl) (j := 0) (hi := rfl) dX3_writeRows_85 ?_
            refine zs_get hO hf 26 (x := ((gwrs g m j.toNat).length : Int)) dX3_writeRows_86 q2996 (Nat.le_of_ble_eq_true rfl) rfl (fun ⟨r4a, r4b⟩ => ?_)
            exact zr_ireturn hO dX3_writeRows_89 ⟨(by rw [if_pos c29, show (min k (grow g (gcl g) (g 0) - m + 1)).toNat = j.toNat by omega]), (zuS (zuA (zuS τ1 0 (if (zB (1 ≤ m ∧ m ≤ grow g (gcl g) (g 0))) = 0 then 1 else 2 - 2 * (zB (1 ≤ k)))) 25 (gput (gwrs g m j.toNat) (σ.2 25))) 26 ((gwrs g m j.toNat).length : Int)), (rfl), (by rw [if_pos c29, show (min k (grow g (gcl g) (g 0) - m + 1)).toNat = j.toNat by omega]; exact (((((zCo.refl σ).tr hs1).uS (k := 0) (by decide) (if (zB (1 ≤ m ∧ m ≤ grow g (gcl g) (g 0))) = 0 then 1 else 2 - 2 * (zB (1 ≤ k)))).cA 25 (gput (gwrs g m j.toNat) (σ.2 25))).cS 26 ((gwrs g m j.toNat).length : Int))), hf⟩
          · skip
            refine zr_iload hO (hl := rfl) (j := 4) dX3_writeRows_56 ?_
            refine zr_if_le hO ⟨by omega, by omega⟩ (tgt := 67) dX3_writeRows_58 rfl (fun c58 => ?_) (fun c58 => ?_)
            · skip
              refine zr_aload_n hO (hl := rfl) (j := 0) (hi := rfl) dX3_writeRows_67 ?_
              refine zr_aload_n hO (hl := rfl) (j := 0) (hi := rfl) dX3_writeRows_68 ?_
              refine zr_iload_n hO (hl := rfl) (j := 1) (hi := rfl) dX3_writeRows_69 ?_
              refine zr_iload hO (hl := rfl) (j := 4) dX3_writeRows_70 ?_
              refine zr_iadd hO dX3_writeRows_72 ?_
              refine zr_cVi hO zc_X3 zw_X3_198 (c_X3_lineIn hI hf ((hs1.2 1 rfl).trans hg) (m + j) (by omega) (by omega) (hd1.2.2) (hw)) dX3_writeRows_73 (zrd_of hf.1) rfl (rest := [zp r]) rfl ⟨Nat.le_of_ble_eq_true rfl, Nat.le_of_ble_eq_true rfl⟩ (Nat.le_of_ble_eq_true rfl) (Nat.le_refl _) (Nat.le_refl _) (fun x h hx => ?_)
              obtain ⟨hx, hf⟩ := hx
              have hx : x = gli g (gcl g) (m + j) := hx
              subst hx
              have hgl9 := gli_in (g := g) (m := m + j) (by omega) (by omega)
              refine zr_cVv hO zc_X3 zw_X3_278 (c_X3_writes hI hf ((hs1.2 1 rfl).trans hg) ((zuS_2 (zuA (zuS τ1 0 (if (zB (1 ≤ m ∧ m ≤ grow g (gcl g) (g 0))) = 0 then 1 else 2 - 2 * (zB (1 ≤ k)))) 25 (gput (gwrs g m j.toNat) (σ.2 25))) 26 ((gwrs g m j.toNat).length : Int) 25).trans (zuA_at (zuS τ1 0 (if (zB (1 ≤ m ∧ m ≤ grow g (gcl g) (g 0))) = 0 then 1 else 2 - 2 * (zB (1 ≤ k)))) 25 (gput (gwrs g m j.toNat) (σ.2 25)))) (zuS_at (zuA (zuS τ1 0 (if (zB (1 ≤ m ∧ m ≤ grow g (gcl g) (g 0))) = 0 then 1 else 2 - 2 * (zB (1 ≤ k)))) 25 (gput (gwrs g m j.toNat) (σ.2 25))) 26 ((gwrs g m j.toNat).length : Int)) (gli g (gcl g) (m + j)) (by omega) (by omega) (by have := gwrs_len g (fun n a b => (w3 n a b).2) (m := m) (by omega) j.toNat (by omega); omega) (hd1.2.2) (hch) (hw)) dX3_writeRows_76 (zrd_of hf.1) rfl (rest := []) rfl ⟨Nat.le_of_ble_eq_true rfl, Nat.le_of_ble_eq_true rfl⟩ (Nat.le_of_ble_eq_true rfl) (Nat.le_refl _) (Nat.le_refl _) (fun h hx => ?_)
              have hf : zRf r ad (zuS (zuA (zuS (zuA (zuS τ1 0 (if (zB (1 ≤ m ∧ m ≤ grow g (gcl g) (g 0))) = 0 then 1 else 2 - 2 * (zB (1 ≤ k)))) 25 (gput (gwrs g m j.toNat) (σ.2 25))) 26 ((gwrs g m j.toNat).length : Int)) 25 (gput ((gwrs g m j.toNat) ++ gwr g (gli g (gcl g) (m + j))) (σ.2 25))) 26 (((gwrs g m j.toNat) ++ gwr g (gli g (gcl g) (m + j))).length : Int)) h0 h := hx
              have hf : zRf r ad (zuS (zuA (zuS τ1 0 (if (zB (1 ≤ m ∧ m ≤ grow g (gcl g) (g 0))) = 0 then 1 else 2 - 2 * (zB (1 ≤ k)))) 25 (gput ((gwrs g m j.toNat) ++ gwr g (gli g (gcl g) (m + j))) (σ.2 25))) 26 (((gwrs g m j.toNat) ++ gwr g (gli g (gcl g) (m + j))).length : Int)) h0 h := zRf_eq (ztx_2 _ _ _ _ _) hf
              refine zr_iinc hO (L' := [(4, zi (j + 1)), (0, zp r), (1, zi m), (2, zi k), (3, zi (grow g (gcl g) (g 0)))]) (j := 4) dX3_writeRows_79 rfl (Nat.le_of_ble_eq_true rfl) rfl ?_
              refine zr_goto hO (tgt := 42) dX3_writeRows_82 rfl ?_
              refine zV.loc [1, 2, 3, 4, 0] rfl ?_
              exact ih42 _ (by omega) (j + 1) rfl (by omega) (by omega) (by omega) h (zRf_eq (by rw [show (j + 1).toNat = j.toNat + 1 by omega, gwrs, if_pos (show j.toNat = 0 by omega), List.append_nil, Int.toNat_of_nonneg i1]) hf)
            · skip
              refine zr_aload_n hO (hl := rfl) (j := 0) (hi := rfl) dX3_writeRows_61 ?_
              refine zr_bipush hO (by decide) dX3_writeRows_62 ?_
              refine zr_cVv hO zc_X3 zw_X3_275 (c_X3_writesByte hI hf ((zuS_2 (zuA (zuS τ1 0 (if (zB (1 ≤ m ∧ m ≤ grow g (gcl g) (g 0))) = 0 then 1 else 2 - 2 * (zB (1 ≤ k)))) 25 (gput (gwrs g m j.toNat) (σ.2 25))) 26 ((gwrs g m j.toNat).length : Int) 25).trans (zuA_at (zuS τ1 0 (if (zB (1 ≤ m ∧ m ≤ grow g (gcl g) (g 0))) = 0 then 1 else 2 - 2 * (zB (1 ≤ k)))) 25 (gput (gwrs g m j.toNat) (σ.2 25)))) (zuS_at (zuA (zuS τ1 0 (if (zB (1 ≤ m ∧ m ≤ grow g (gcl g) (g 0))) = 0 then 1 else 2 - 2 * (zB (1 ≤ k)))) 25 (gput (gwrs g m j.toNat) (σ.2 25))) 26 ((gwrs g m j.toNat).length : Int)) 124 (by omega) (by omega) (by have := gwrs_len g (fun n a b => (w3 n a b).2) (m := m) (by omega) j.toNat (by omega); omega)) dX3_writeRows_64 (zrd_of hf.1) rfl (rest := []) rfl ⟨Nat.le_of_ble_eq_true rfl, Nat.le_of_ble_eq_true rfl⟩ (Nat.le_of_ble_eq_true rfl) (Nat.le_refl _) (Nat.le_refl _) (fun h hx => ?_)
              have hf : zRf r ad (zuS (zuA (zuS (zuA (zuS τ1 0 (if (zB (1 ≤ m ∧ m ≤ grow g (gcl g) (g 0))) = 0 then 1 else 2 - 2 * (zB (1 ≤ k)))) 25 (gput (gwrs g m j.toNat) (σ.2 25))) 26 ((gwrs g m j.toNat).length : Int)) 25 (gput ((gwrs g m j.toNat) ++ [124]) (σ.2 25))) 26 (((gwrs g m j.toNat) ++ [124]).length : Int)) h0 h := hx
              have hf : zRf r ad (zuS (zuA (zuS τ1 0 (if (zB (1 ≤ m ∧ m ≤ grow g (gcl g) (g 0))) = 0 then 1 else 2 - 2 * (zB (1 ≤ k)))) 25 (gput ((gwrs g m j.toNat) ++ [124]) (σ.2 25))) 26 (((gwrs g m j.toNat) ++ [124]).length : Int)) h0 h := zRf_eq (ztx_2 _ _ _ _ _) hf
              refine zr_aload_n hO (hl := rfl) (j := 0) (hi := rfl) dX3_writeRows_67 ?_
              refine zr_aload_n hO (hl := rfl) (j := 0) (hi := rfl) dX3_writeRows_68 ?_
              refine zr_iload_n hO (hl := rfl) (j := 1) (hi := rfl) dX3_writeRows_69 ?_
              refine zr_iload hO (hl := rfl) (j := 4) dX3_writeRows_70 ?_
              refine zr_iadd hO dX3_writeRows_72 ?_
              refine zr_cVi hO zc_X3 zw_X3_198 (c_X3_lineIn hI hf ((hs1.2 1 rfl).trans hg) (m + j) (by omega) (by omega) (hd1.2.2) (hw)) dX3_writeRows_73 (zrd_of hf.1) rfl (rest := [zp r]) rfl ⟨Nat.le_of_ble_eq_true rfl, Nat.le_of_ble_eq_true rfl⟩ (Nat.le_of_ble_eq_true rfl) (Nat.le_refl _) (Nat.le_refl _) (fun x h hx => ?_)
              obtain ⟨hx, hf⟩ := hx
              have hx : x = gli g (gcl g) (m + j) := hx
              subst hx
              have hgl9 := gli_in (g := g) (m := m + j) (by omega) (by omega)
              refine zr_cVv hO zc_X3 zw_X3_278 (c_X3_writes hI hf ((hs1.2 1 rfl).trans hg) ((zuS_2 (zuA (zuS τ1 0 (if (zB (1 ≤ m ∧ m ≤ grow g (gcl g) (g 0))) = 0 then 1 else 2 - 2 * (zB (1 ≤ k)))) 25 (gput ((gwrs g m j.toNat) ++ [124]) (σ.2 25))) 26 (((gwrs g m j.toNat) ++ [124]).length : Int) 25).trans (zuA_at (zuS τ1 0 (if (zB (1 ≤ m ∧ m ≤ grow g (gcl g) (g 0))) = 0 then 1 else 2 - 2 * (zB (1 ≤ k)))) 25 (gput ((gwrs g m j.toNat) ++ [124]) (σ.2 25)))) (zuS_at (zuA (zuS τ1 0 (if (zB (1 ≤ m ∧ m ≤ grow g (gcl g) (g 0))) = 0 then 1 else 2 - 2 * (zB (1 ≤ k)))) 25 (gput ((gwrs g m j.toNat) ++ [124]) (σ.2 25))) 26 (((gwrs g m j.toNat) ++ [124]).length : Int)) (gli g (gcl g) (m + j)) (by omega) (by omega) (by have := gwrs_len g (fun n a b => (w3 n a b).2) (m := m) (by omega) j.toNat (by omega); rw [List.length_append]; simp only [List.length_cons, List.length_nil]; omega) (hd1.2.2) (hch) (hw)) dX3_writeRows_76 (zrd_of hf.1) rfl (rest := []) rfl ⟨Nat.le_of_ble_eq_true rfl, Nat.le_of_ble_eq_true rfl⟩ (Nat.le_of_ble_eq_true rfl) (Nat.le_refl _) (Nat.le_refl _) (fun h hx => ?_)
              have hf : zRf r ad (zuS (zuA (zuS (zuA (zuS τ1 0 (if (zB (1 ≤ m ∧ m ≤ grow g (gcl g) (g 0))) = 0 then 1 else 2 - 2 * (zB (1 ≤ k)))) 25 (gput ((gwrs g m j.toNat) ++ [124]) (σ.2 25))) 26 (((gwrs g m j.toNat) ++ [124]).length : Int)) 25 (gput (((gwrs g m j.toNat) ++ [124]) ++ gwr g (gli g (gcl g) (m + j))) (σ.2 25))) 26 ((((gwrs g m j.toNat) ++ [124]) ++ gwr g (gli g (gcl g) (m + j))).length : Int)) h0 h := hx
              have hf : zRf r ad (zuS (zuA (zuS τ1 0 (if (zB (1 ≤ m ∧ m ≤ grow g (gcl g) (g 0))) = 0 then 1 else 2 - 2 * (zB (1 ≤ k)))) 25 (gput (((gwrs g m j.toNat) ++ [124]) ++ gwr g (gli g (gcl g) (m + j))) (σ.2 25))) 26 ((((gwrs g m j.toNat) ++ [124]) ++ gwr g (gli g (gcl g) (m + j))).length : Int)) h0 h := zRf_eq (ztx_2 _ _ _ _ _) hf
              refine zr_iinc hO (L' := [(4, zi (j + 1)), (0, zp r), (1, zi m), (2, zi k), (3, zi (grow g (gcl g) (g 0)))]) (j := 4) dX3_writeRows_79 rfl (Nat.le_of_ble_eq_true rfl) rfl ?_
              refine zr_goto hO (tgt := 42) dX3_writeRows_82 rfl ?_
              refine zV.loc [1, 2, 3, 4, 0] rfl ?_
              exact ih42 _ (by omega) (j + 1) rfl (by omega) (by omega) (by omega) h (zRf_eq (by rw [show (j + 1).toNat = j.toNat + 1 by omega, gwrs, if_neg (show ¬ j.toNat = 0 by omega), Int.toNat_of_nonneg i1]) hf)
      refine zV.loc [2, 3, 4, 1, 0] rfl ?_
      exact hl42 _ 0 rfl (by omega) (by omega) (by omega) h hf
    · skip
      have c29 := zB_eq c29
      refine zr_iconst hO dX3_writeRows_32 ?_
      exact zr_ireturn hO dX3_writeRows_33 ⟨(by rw [if_neg c29]), (zuS τ1 0 (if (zB (1 ≤ m ∧ m ≤ grow g (gcl g) (g 0))) = 0 then 1 else 2 - 2 * (zB (1 ≤ k)))), (rfl), (by rw [if_neg c29]; exact (((zCo.refl σ).tr hs1).uS (k := 0) (by decide) (if (zB (1 ≤ m ∧ m ≤ grow g (gcl g) (g 0))) = 0 then 1 else 2 - 2 * (zB (1 ≤ k))))), hf⟩
  refine zr_aload_n hO (hl := rfl) (j := 1) (hi := rfl) dX3_writeRows_9 ?_
  refine zr_iload_n hO (hl := rfl) (j := 2) (hi := rfl) dX3_writeRows_10 ?_
  refine zr_iconst hO dX3_writeRows_11 ?_
  refine zr_iload_n hO (hl := rfl) (j := 0) (hi := rfl) dX3_writeRows_12 ?_
  refine zr_cSi hO zw_X3_95 (c_X3_in m 1 (grow g (gcl g) (g 0)) (⟨by omega, by omega⟩) (⟨by omega, by omega⟩) (⟨by omega, by omega⟩)) dX3_writeRows_13 rfl (rest := [zp r]) rfl ⟨Nat.le_of_ble_eq_true rfl, Nat.le_of_ble_eq_true rfl⟩ (Nat.le_of_ble_eq_true rfl) (Nat.le_refl _) (Nat.le_refl _) (fun x h hx => ?_)
  obtain ⟨hx, rfl⟩ := hx
  have hx : x = zB (1 ≤ m ∧ m ≤ (grow g (gcl g) (g 0))) := hx
  subst hx
  refine zr_iload_n hO (hl := rfl) (j := 3) (hi := rfl) dX3_writeRows_16 ?_
  refine zr_iconst hO dX3_writeRows_17 ?_
  refine zr_icmp_lt hO ⟨by omega, by omega⟩ ⟨by omega, by omega⟩ (tgt := 25) dX3_writeRows_18 rfl (fun c18 => ?_) (fun c18 => ?_)
  · skip
    refine zr_iconst hO dX3_writeRows_25 ?_
    exact hj26 0 ((zB_f (by omega)).symm) h hf
  · skip
    refine zr_iconst hO dX3_writeRows_21 ?_
    refine zr_goto hO (tgt := 26) dX3_writeRows_22 rfl ?_
    exact hj26 1 ((zB_t (by omega)).symm) h hf
theorem c_X3_writeOutline {G : zG} {r : Nat} {ad : Nat → Nat} {h0 : zHp} (hI : zRI r ad) {σ : zS} {h : zHp} (hf : zRf r ad σ h0 h) {g : Nat → Int} (hg : σ.2 1 = g) (hch : zwc g) (hw : zwf g) : zC G yX3_writeOutline cX3_writeOutline 2 (some Jvm.ClassFile.FieldType.int) 7 157 0 0 [zp r] h (zPi (fun x h' => x = (((gwo g (gN g)).length : Int)) ∧ ∃ τ : zS, τ.1 0 = 0 ∧ zCo (zuS (zuA σ 25 (gput (gwo g (gN g)) (σ.2 25))) 26 ((gwo g (gN g)).length : Int)) τ ∧ zRf r ad τ h0 h') zNo) := by
  refine zC.of zpn_X3 (Nat.le_of_ble_eq_true rfl) (L := [(0, zp r)]) rfl (fun K hO => ?_)
  obtain ⟨w1, w2, w3⟩ := id hw
  have hN := gN_le g
  refine zr_aload_n hO (hl := rfl) (j := 0) (hi := rfl) dX3_writeOutline_0 ?_
  refine zr_iconst hO dX3_writeOutline_1 ?_
  refine zs_put hO hI hf 0 dX3_writeOutline_2 q2970 (Nat.le_of_ble_eq_true rfl) rfl rfl rfl ⟨by omega, by omega⟩ (fun h hf => ?_)
  refine zr_aload_n hO (hl := rfl) (j := 0) (hi := rfl) dX3_writeOutline_5 ?_
  refine zr_cVv hO zc_X3 zw_X3_174 (c_X3_layAll hI hf hg  (hw)) dX3_writeOutline_6 (zrd_of hf.1) rfl (rest := []) rfl ⟨Nat.le_of_ble_eq_true rfl, Nat.le_of_ble_eq_true rfl⟩ (Nat.le_of_ble_eq_true rfl) (Nat.le_refl _) (Nat.le_refl _) (fun h hx => ?_)
  obtain ⟨τ1, hs1, hd1, hf⟩ := hx
  refine zr_aload_n hO (hl := rfl) (j := 0) (hi := rfl) dX3_writeOutline_9 ?_
  refine zr_iconst hO dX3_writeOutline_10 ?_
  refine zs_put hO hI hf 26 dX3_writeOutline_11 q2996 (Nat.le_of_ble_eq_true rfl) rfl rfl rfl ⟨by omega, by omega⟩ (fun h hf => ?_)
  have hf : zRf r ad (zuS (zuA τ1 25 (gput ([] : List Int) (σ.2 25))) 26 (([] : List Int).length : Int)) h0 h := zRf_eq (by rw [gput_nil, zuA_id' (σ := τ1) (f := σ.2 25) 25 ((hs1.2 25 rfl).trans (zuS_2 σ 0 0 25))]; rfl) hf
  refine zr_iconst hO dX3_writeOutline_14 ?_
  refine zr_istore_n hO (L' := [(1, zi 0), (0, zp r)]) (hi := rfl) dX3_writeOutline_15 (Nat.le_of_ble_eq_true rfl) rfl ?_
  have hl16 : ∀ (n9 : Nat) (k : Int), ((gN g : Int) - k).toNat = n9 → ∀ (i1 : 0 ≤ k) (i2 : k ≤ gN g) (h : zHp) (hf : zRf r ad (zuS (zuA τ1 25 (gput (gwo g k.toNat) (σ.2 25))) 26 ((gwo g k.toNat).length : Int)) h0 h), zV G K 0 0 h 16 [(0, zp r), (1, zi k)] [] := by
    intro n9
    induction n9 using Nat.strongRecOn with
    | _ n9 ih16 =>
    intro k hn16 i1 i2 h hf
    refine zr_iload_n hO (hl := rfl) (j := 1) (hi := rfl) dX3_writeOutline_16 ?_
    refine zr_aload_n hO (hl := rfl) (j := 0) (hi := rfl) dX3_writeOutline_17 ?_
    refine zs_get hO hf 22 (x := τ1.1 22) dX3_writeOutline_18 q2992 (Nat.le_of_ble_eq_true rfl) rfl (fun ⟨r1a, r1b⟩ => ?_)
    rw [show (τ1.1 22) = (gN g : Int) from hd1.2.1.1]
    refine zr_icmp_ge hO ⟨by omega, by omega⟩ ⟨by omega, by omega⟩ (tgt := 96) dX3_writeOutline_21 rfl (fun c21 => ?_) (fun c21 => ?_)
    · skip
      refine zr_aload_n hO (hl := rfl) (j := 0) (hi := rfl) dX3_writeOutline_96 ?_
      refine zs_get hO hf 26 (x := ((gwo g k.toNat).length : Int)) dX3_writeOutline_97 q2996 (Nat.le_of_ble_eq_true rfl) rfl (fun ⟨r2a, r2b⟩ => ?_)
      exact zr_ireturn hO dX3_writeOutline_100 ⟨(by rw [show k = gN g by omega, Int.toNat_natCast]), (zuS (zuA τ1 25 (gput (gwo g k.toNat) (σ.2 25))) 26 ((gwo g k.toNat).length : Int)), (((hs1.1 0 (by decide) (by decide)).trans rfl)), (by rw [show gN g = k.toNat by omega]; exact (((((zCo.refl σ).uS (k := 0) (by decide) 0).tr hs1).cA 25 (gput (gwo g k.toNat) (σ.2 25))).cS 26 ((gwo g k.toNat).length : Int))), hf⟩
    · skip
      have hN := gN_le g
      have hrk := hd1.2.1.2 k.toNat (by omega)
      have hgk := g_rows hw (r := k.toNat) (by omega)
      have hlen := gwo_len hw k.toNat (by omega)
      have hl1 := (gnm4_l (gV g k.toNat)).2.2 (by omega)
      have hl2 := (gnm4_l (gF g k.toNat)).2.1 (by omega)
      have hl3 := (gnm4_l (gM g k.toNat)).2.1 (by omega)
      unfold gnm4 at hl1 hl2 hl3
      refine zr_iload_n hO (hl := rfl) (j := 1) (hi := rfl) dX3_writeOutline_24 ?_
      refine zr_if_le hO ⟨by omega, by omega⟩ (tgt := 34) dX3_writeOutline_25 rfl (fun c25 => ?_) (fun c25 => ?_)
      · skip
        refine zr_aload_n hO (hl := rfl) (j := 0) (hi := rfl) dX3_writeOutline_34 ?_
        refine zr_aload_n hO (hl := rfl) (j := 0) (hi := rfl) dX3_writeOutline_35 ?_
        refine zs_arr hO hf 18 dX3_writeOutline_36 q2988 (Nat.le_of_ble_eq_true rfl) rfl ?_
        refine zr_iload_n hO (hl := rfl) (j := 1) (hi := rfl) dX3_writeOutline_39 ?_
        refine zs_ild hO hf 18 (f := τ1.2 18) (n := 960) (j := k.toNat) dX3_writeOutline_40 rfl rfl rfl rfl (by omega) (by omega) rfl (fun ⟨r3a, r3b⟩ => ?_)
        rw [show ((τ1.2 18) k.toNat) = gV g k.toNat from hrk.2.2.2.2.1]
        refine zr_cVv hO zc_X3 zw_X3_272 (c_X3_writesNumber4 hI hf ((zuS_2 (zuA τ1 25 (gput (gwo g k.toNat) (σ.2 25))) 26 ((gwo g k.toNat).length : Int) 25).trans (zuA_at τ1 25 (gput (gwo g k.toNat) (σ.2 25)))) (zuS_at (zuA τ1 25 (gput (gwo g k.toNat) (σ.2 25))) 26 ((gwo g k.toNat).length : Int)) (gV g k.toNat) (by omega) (by omega) (by (try simp only [List.length_append, List.length_cons, List.length_nil]); omega)) dX3_writeOutline_41 (zrd_of hf.1) rfl (rest := []) rfl ⟨Nat.le_of_ble_eq_true rfl, Nat.le_of_ble_eq_true rfl⟩ (Nat.le_of_ble_eq_true rfl) (Nat.le_refl _) (Nat.le_refl _) (fun h hx => ?_)
        have hf : zRf r ad (zuS (zuA (zuS (zuA τ1 25 (gput (gwo g k.toNat) (σ.2 25))) 26 ((gwo g k.toNat).length : Int)) 25 (gput ((gwo g k.toNat) ++ gnum 4 (gV g k.toNat)) (σ.2 25))) 26 (((gwo g k.toNat) ++ gnum 4 (gV g k.toNat)).length : Int)) h0 h := hx
        have hf : zRf r ad (zuS (zuA τ1 25 (gput ((gwo g k.toNat) ++ gnum 4 (gV g k.toNat)) (σ.2 25))) 26 (((gwo g k.toNat) ++ gnum 4 (gV g k.toNat)).length : Int)) h0 h := zRf_eq (ztx_2 _ _ _ _ _) hf
        refine zr_aload_n hO (hl := rfl) (j := 0) (hi := rfl) dX3_writeOutline_44 ?_
        refine zr_bipush hO (by decide) dX3_writeOutline_45 ?_
        refine zr_cVv hO zc_X3 zw_X3_275 (c_X3_writesByte hI hf ((zuS_2 (zuA τ1 25 (gput ((gwo g k.toNat) ++ gnum 4 (gV g k.toNat)) (σ.2 25))) 26 (((gwo g k.toNat) ++ gnum 4 (gV g k.toNat)).length : Int) 25).trans (zuA_at τ1 25 (gput ((gwo g k.toNat) ++ gnum 4 (gV g k.toNat)) (σ.2 25)))) (zuS_at (zuA τ1 25 (gput ((gwo g k.toNat) ++ gnum 4 (gV g k.toNat)) (σ.2 25))) 26 (((gwo g k.toNat) ++ gnum 4 (gV g k.toNat)).length : Int)) 47 (by omega) (by omega) (by (try simp only [List.length_append, List.length_cons, List.length_nil]); omega)) dX3_writeOutline_47 (zrd_of hf.1) rfl (rest := []) rfl ⟨Nat.le_of_ble_eq_true rfl, Nat.le_of_ble_eq_true rfl⟩ (Nat.le_of_ble_eq_true rfl) (Nat.le_refl _) (Nat.le_refl _) (fun h hx => ?_)
        have hf : zRf r ad (zuS (zuA (zuS (zuA τ1 25 (gput ((gwo g k.toNat) ++ gnum 4 (gV g k.toNat)) (σ.2 25))) 26 (((gwo g k.toNat) ++ gnum 4 (gV g k.toNat)).length : Int)) 25 (gput (((gwo g k.toNat) ++ gnum 4 (gV g k.toNat)) ++ [47]) (σ.2 25))) 26 ((((gwo g k.toNat) ++ gnum 4 (gV g k.toNat)) ++ [47]).length : Int)) h0 h := hx
        have hf : zRf r ad (zuS (zuA τ1 25 (gput (((gwo g k.toNat) ++ gnum 4 (gV g k.toNat)) ++ [47]) (σ.2 25))) 26 ((((gwo g k.toNat) ++ gnum 4 (gV g k.toNat)) ++ [47]).length : Int)) h0 h := zRf_eq (ztx_2 _ _ _ _ _) hf
        refine zr_aload_n hO (hl := rfl) (j := 0) (hi := rfl) dX3_writeOutline_50 ?_
        refine zr_aload_n hO (hl := rfl) (j := 0) (hi := rfl) dX3_writeOutline_51 ?_
        refine zs_arr hO hf 14 dX3_writeOutline_52 q2984 (Nat.le_of_ble_eq_true rfl) rfl ?_
        refine zr_iload_n hO (hl := rfl) (j := 1) (hi := rfl) dX3_writeOutline_55 ?_
        refine zs_ild hO hf 14 (f := τ1.2 14) (n := 960) (j := k.toNat) dX3_writeOutline_56 rfl rfl rfl rfl (by omega) (by omega) rfl (fun ⟨r6a, r6b⟩ => ?_)
        rw [show ((τ1.2 14) k.toNat) = gF g k.toNat from hrk.1]
        refine zr_cVv hO zc_X3 zw_X3_272 (c_X3_writesNumber4 hI hf ((zuS_2 (zuA τ1 25 (gput (((gwo g k.toNat) ++ gnum 4 (gV g k.toNat)) ++ [47]) (σ.2 25))) 26 ((((gwo g k.toNat) ++ gnum 4 (gV g k.toNat)) ++ [47]).length : Int) 25).trans (zuA_at τ1 25 (gput (((gwo g k.toNat) ++ gnum 4 (gV g k.toNat)) ++ [47]) (σ.2 25)))) (zuS_at (zuA τ1 25 (gput (((gwo g k.toNat) ++ gnum 4 (gV g k.toNat)) ++ [47]) (σ.2 25))) 26 ((((gwo g k.toNat) ++ gnum 4 (gV g k.toNat)) ++ [47]).length : Int)) (gF g k.toNat) (by omega) (by omega) (by (try simp only [List.length_append, List.length_cons, List.length_nil]); omega)) dX3_writeOutline_57 (zrd_of hf.1) rfl (rest := []) rfl ⟨Nat.le_of_ble_eq_true rfl, Nat.le_of_ble_eq_true rfl⟩ (Nat.le_of_ble_eq_true rfl) (Nat.le_refl _) (Nat.le_refl _) (fun h hx => ?_)
        have hf : zRf r ad (zuS (zuA (zuS (zuA τ1 25 (gput (((gwo g k.toNat) ++ gnum 4 (gV g k.toNat)) ++ [47]) (σ.2 25))) 26 ((((gwo g k.toNat) ++ gnum 4 (gV g k.toNat)) ++ [47]).length : Int)) 25 (gput ((((gwo g k.toNat) ++ gnum 4 (gV g k.toNat)) ++ [47]) ++ gnum 4 (gF g k.toNat)) (σ.2 25))) 26 (((((gwo g k.toNat) ++ gnum 4 (gV g k.toNat)) ++ [47]) ++ gnum 4 (gF g k.toNat)).length : Int)) h0 h := hx
        have hf : zRf r ad (zuS (zuA τ1 25 (gput ((((gwo g k.toNat) ++ gnum 4 (gV g k.toNat)) ++ [47]) ++ gnum 4 (gF g k.toNat)) (σ.2 25))) 26 (((((gwo g k.toNat) ++ gnum 4 (gV g k.toNat)) ++ [47]) ++ gnum 4 (gF g k.toNat)).length : Int)) h0 h := zRf_eq (ztx_2 _ _ _ _ _) hf
        refine zr_aload_n hO (hl := rfl) (j := 0) (hi := rfl) dX3_writeOutline_60 ?_
        refine zr_bipush hO (by decide) dX3_writeOutline_61 ?_
        refine zr_cVv hO zc_X3 zw_X3_275 (c_X3_writesByte hI hf ((zuS_2 (zuA τ1 25 (gput ((((gwo g k.toNat) ++ gnum 4 (gV g k.toNat)) ++ [47]) ++ gnum 4 (gF g k.toNat)) (σ.2 25))) 26 (((((gwo g k.toNat) ++ gnum 4 (gV g k.toNat)) ++ [47]) ++ gnum 4 (gF g k.toNat)).length : Int) 25).trans (zuA_at τ1 25 (gput ((((gwo g k.toNat) ++ gnum 4 (gV g k.toNat)) ++ [47]) ++ gnum 4 (gF g k.toNat)) (σ.2 25)))) (zuS_at (zuA τ1 25 (gput ((((gwo g k.toNat) ++ gnum 4 (gV g k.toNat)) ++ [47]) ++ gnum 4 (gF g k.toNat)) (σ.2 25))) 26 (((((gwo g k.toNat) ++ gnum 4 (gV g k.toNat)) ++ [47]) ++ gnum 4 (gF g k.toNat)).length : Int)) 45 (by omega) (by omega) (by (try simp only [List.length_append, List.length_cons, List.length_nil]); omega)) dX3_writeOutline_63 (zrd_of hf.1) rfl (rest := []) rfl ⟨Nat.le_of_ble_eq_true rfl, Nat.le_of_ble_eq_true rfl⟩ (Nat.le_of_ble_eq_true rfl) (Nat.le_refl _) (Nat.le_refl _) (fun h hx => ?_)
        have hf : zRf r ad (zuS (zuA (zuS (zuA τ1 25 (gput ((((gwo g k.toNat) ++ gnum 4 (gV g k.toNat)) ++ [47]) ++ gnum 4 (gF g k.toNat)) (σ.2 25))) 26 (((((gwo g k.toNat) ++ gnum 4 (gV g k.toNat)) ++ [47]) ++ gnum 4 (gF g k.toNat)).length : Int)) 25 (gput (((((gwo g k.toNat) ++ gnum 4 (gV g k.toNat)) ++ [47]) ++ gnum 4 (gF g k.toNat)) ++ [45]) (σ.2 25))) 26 ((((((gwo g k.toNat) ++ gnum 4 (gV g k.toNat)) ++ [47]) ++ gnum 4 (gF g k.toNat)) ++ [45]).length : Int)) h0 h := hx
        have hf : zRf r ad (zuS (zuA τ1 25 (gput (((((gwo g k.toNat) ++ gnum 4 (gV g k.toNat)) ++ [47]) ++ gnum 4 (gF g k.toNat)) ++ [45]) (σ.2 25))) 26 ((((((gwo g k.toNat) ++ gnum 4 (gV g k.toNat)) ++ [47]) ++ gnum 4 (gF g k.toNat)) ++ [45]).length : Int)) h0 h := zRf_eq (ztx_2 _ _ _ _ _) hf
        refine zr_aload_n hO (hl := rfl) (j := 0) (hi := rfl) dX3_writeOutline_66 ?_
        refine zr_aload_n hO (hl := rfl) (j := 0) (hi := rfl) dX3_writeOutline_67 ?_
        refine zs_arr hO hf 15 dX3_writeOutline_68 q2985 (Nat.le_of_ble_eq_true rfl) rfl ?_
        refine zr_iload_n hO (hl := rfl) (j := 1) (hi := rfl) dX3_writeOutline_71 ?_
        refine zs_ild hO hf 15 (f := τ1.2 15) (n := 960) (j := k.toNat) dX3_writeOutline_72 rfl rfl rfl rfl (by omega) (by omega) rfl (fun ⟨r9a, r9b⟩ => ?_)
        rw [show ((τ1.2 15) k.toNat) = gM g k.toNat from hrk.2.1]
        refine zr_cVv hO zc_X3 zw_X3_272 (c_X3_writesNumber4 hI hf ((zuS_2 (zuA τ1 25 (gput (((((gwo g k.toNat) ++ gnum 4 (gV g k.toNat)) ++ [47]) ++ gnum 4 (gF g k.toNat)) ++ [45]) (σ.2 25))) 26 ((((((gwo g k.toNat) ++ gnum 4 (gV g k.toNat)) ++ [47]) ++ gnum 4 (gF g k.toNat)) ++ [45]).length : Int) 25).trans (zuA_at τ1 25 (gput (((((gwo g k.toNat) ++ gnum 4 (gV g k.toNat)) ++ [47]) ++ gnum 4 (gF g k.toNat)) ++ [45]) (σ.2 25)))) (zuS_at (zuA τ1 25 (gput (((((gwo g k.toNat) ++ gnum 4 (gV g k.toNat)) ++ [47]) ++ gnum 4 (gF g k.toNat)) ++ [45]) (σ.2 25))) 26 ((((((gwo g k.toNat) ++ gnum 4 (gV g k.toNat)) ++ [47]) ++ gnum 4 (gF g k.toNat)) ++ [45]).length : Int)) (gM g k.toNat) (by omega) (by omega) (by (try simp only [List.length_append, List.length_cons, List.length_nil]); omega)) dX3_writeOutline_73 (zrd_of hf.1) rfl (rest := []) rfl ⟨Nat.le_of_ble_eq_true rfl, Nat.le_of_ble_eq_true rfl⟩ (Nat.le_of_ble_eq_true rfl) (Nat.le_refl _) (Nat.le_refl _) (fun h hx => ?_)
        have hf : zRf r ad (zuS (zuA (zuS (zuA τ1 25 (gput (((((gwo g k.toNat) ++ gnum 4 (gV g k.toNat)) ++ [47]) ++ gnum 4 (gF g k.toNat)) ++ [45]) (σ.2 25))) 26 ((((((gwo g k.toNat) ++ gnum 4 (gV g k.toNat)) ++ [47]) ++ gnum 4 (gF g k.toNat)) ++ [45]).length : Int)) 25 (gput ((((((gwo g k.toNat) ++ gnum 4 (gV g k.toNat)) ++ [47]) ++ gnum 4 (gF g k.toNat)) ++ [45]) ++ gnum 4 (gM g k.toNat)) (σ.2 25))) 26 (((((((gwo g k.toNat) ++ gnum 4 (gV g k.toNat)) ++ [47]) ++ gnum 4 (gF g k.toNat)) ++ [45]) ++ gnum 4 (gM g k.toNat)).length : Int)) h0 h := hx
        have hf : zRf r ad (zuS (zuA τ1 25 (gput ((((((gwo g k.toNat) ++ gnum 4 (gV g k.toNat)) ++ [47]) ++ gnum 4 (gF g k.toNat)) ++ [45]) ++ gnum 4 (gM g k.toNat)) (σ.2 25))) 26 (((((((gwo g k.toNat) ++ gnum 4 (gV g k.toNat)) ++ [47]) ++ gnum 4 (gF g k.toNat)) ++ [45]) ++ gnum 4 (gM g k.toNat)).length : Int)) h0 h := zRf_eq (ztx_2 _ _ _ _ _) hf
        refine zr_aload_n hO (hl := rfl) (j := 0) (hi := rfl) dX3_writeOutline_76 ?_
        refine zr_iload_n hO (hl := rfl) (j := 1) (hi := rfl) dX3_writeOutline_77 ?_
        refine zr_cVi hO zc_X3 zw_X3_215 (c_X3_isFolded hI hf ((hs1.2 1 rfl).trans hg) ((zuS_2 (zuA τ1 25 (gput ((((((gwo g k.toNat) ++ gnum 4 (gV g k.toNat)) ++ [47]) ++ gnum 4 (gF g k.toNat)) ++ [45]) ++ gnum 4 (gM g k.toNat)) (σ.2 25))) 26 (((((((gwo g k.toNat) ++ gnum 4 (gV g k.toNat)) ++ [47]) ++ gnum 4 (gF g k.toNat)) ++ [45]) ++ gnum 4 (gM g k.toNat)).length : Int) 14).trans (zuA_ne τ1 25 (gput ((((((gwo g k.toNat) ++ gnum 4 (gV g k.toNat)) ++ [47]) ++ gnum 4 (gF g k.toNat)) ++ [45]) ++ gnum 4 (gM g k.toNat)) (σ.2 25)) (j := 14) (by decide))) k (by omega) (by omega) ((by rw [hrk.1]; omega)) ((by rw [hrk.1]; omega))) dX3_writeOutline_78 (zrd_of hf.1) rfl (rest := []) rfl ⟨Nat.le_of_ble_eq_true rfl, Nat.le_of_ble_eq_true rfl⟩ (Nat.le_of_ble_eq_true rfl) (Nat.le_refl _) (Nat.le_refl _) (fun x h hx => ?_)
        obtain ⟨hx, hf⟩ := hx
        have hx : x = zB (gcl g ((τ1.2 14) k.toNat) = 1) := hx
        subst hx
        rw [show (zB (gcl g ((τ1.2 14) k.toNat) = 1)) = zB (gcl g (gF g k.toNat) = 1) from (by rw [hrk.1])]
        refine zr_if_eq hO (zR_B _) (tgt := 90) dX3_writeOutline_81 rfl (fun c81 => ?_) (fun c81 => ?_)
        · skip
          have c81 := zB_eq c81
          refine zr_iinc hO (L' := [(1, zi (k + 1)), (0, zp r)]) (j := 1) dX3_writeOutline_90 rfl (Nat.le_of_ble_eq_true rfl) rfl ?_
          refine zr_goto hO (tgt := 16) dX3_writeOutline_93 rfl ?_
          refine zV.loc [1, 0] rfl ?_
          exact ih16 _ (by omega) (k + 1) rfl (by omega) (by omega) h (zRf_eq (by rw [show (k + 1).toNat = k.toNat + 1 by omega, gwo, if_pos (show k.toNat = 0 by omega), List.append_nil, if_neg (show ¬ gcl g (gF g k.toNat) = 1 by omega), List.append_nil]) hf)
        · skip
          have c81 := zB_ne c81
          refine zr_aload_n hO (hl := rfl) (j := 0) (hi := rfl) dX3_writeOutline_84 ?_
          refine zr_bipush hO (by decide) dX3_writeOutline_85 ?_
          refine zr_cVv hO zc_X3 zw_X3_275 (c_X3_writesByte hI hf ((zuS_2 (zuA τ1 25 (gput ((((((gwo g k.toNat) ++ gnum 4 (gV g k.toNat)) ++ [47]) ++ gnum 4 (gF g k.toNat)) ++ [45]) ++ gnum 4 (gM g k.toNat)) (σ.2 25))) 26 (((((((gwo g k.toNat) ++ gnum 4 (gV g k.toNat)) ++ [47]) ++ gnum 4 (gF g k.toNat)) ++ [45]) ++ gnum 4 (gM g k.toNat)).length : Int) 25).trans (zuA_at τ1 25 (gput ((((((gwo g k.toNat) ++ gnum 4 (gV g k.toNat)) ++ [47]) ++ gnum 4 (gF g k.toNat)) ++ [45]) ++ gnum 4 (gM g k.toNat)) (σ.2 25)))) (zuS_at (zuA τ1 25 (gput ((((((gwo g k.toNat) ++ gnum 4 (gV g k.toNat)) ++ [47]) ++ gnum 4 (gF g k.toNat)) ++ [45]) ++ gnum 4 (gM g k.toNat)) (σ.2 25))) 26 (((((((gwo g k.toNat) ++ gnum 4 (gV g k.toNat)) ++ [47]) ++ gnum 4 (gF g k.toNat)) ++ [45]) ++ gnum 4 (gM g k.toNat)).length : Int)) 42 (by omega) (by omega) (by (try simp only [List.length_append, List.length_cons, List.length_nil]); omega)) dX3_writeOutline_87 (zrd_of hf.1) rfl (rest := []) rfl ⟨Nat.le_of_ble_eq_true rfl, Nat.le_of_ble_eq_true rfl⟩ (Nat.le_of_ble_eq_true rfl) (Nat.le_refl _) (Nat.le_refl _) (fun h hx => ?_)
          have hf : zRf r ad (zuS (zuA (zuS (zuA τ1 25 (gput ((((((gwo g k.toNat) ++ gnum 4 (gV g k.toNat)) ++ [47]) ++ gnum 4 (gF g k.toNat)) ++ [45]) ++ gnum 4 (gM g k.toNat)) (σ.2 25))) 26 (((((((gwo g k.toNat) ++ gnum 4 (gV g k.toNat)) ++ [47]) ++ gnum 4 (gF g k.toNat)) ++ [45]) ++ gnum 4 (gM g k.toNat)).length : Int)) 25 (gput (((((((gwo g k.toNat) ++ gnum 4 (gV g k.toNat)) ++ [47]) ++ gnum 4 (gF g k.toNat)) ++ [45]) ++ gnum 4 (gM g k.toNat)) ++ [42]) (σ.2 25))) 26 ((((((((gwo g k.toNat) ++ gnum 4 (gV g k.toNat)) ++ [47]) ++ gnum 4 (gF g k.toNat)) ++ [45]) ++ gnum 4 (gM g k.toNat)) ++ [42]).length : Int)) h0 h := hx
          have hf : zRf r ad (zuS (zuA τ1 25 (gput (((((((gwo g k.toNat) ++ gnum 4 (gV g k.toNat)) ++ [47]) ++ gnum 4 (gF g k.toNat)) ++ [45]) ++ gnum 4 (gM g k.toNat)) ++ [42]) (σ.2 25))) 26 ((((((((gwo g k.toNat) ++ gnum 4 (gV g k.toNat)) ++ [47]) ++ gnum 4 (gF g k.toNat)) ++ [45]) ++ gnum 4 (gM g k.toNat)) ++ [42]).length : Int)) h0 h := zRf_eq (ztx_2 _ _ _ _ _) hf
          refine zr_iinc hO (L' := [(1, zi (k + 1)), (0, zp r)]) (j := 1) dX3_writeOutline_90 rfl (Nat.le_of_ble_eq_true rfl) rfl ?_
          refine zr_goto hO (tgt := 16) dX3_writeOutline_93 rfl ?_
          refine zV.loc [1, 0] rfl ?_
          exact ih16 _ (by omega) (k + 1) rfl (by omega) (by omega) h (zRf_eq (by rw [show (k + 1).toNat = k.toNat + 1 by omega, gwo, if_pos (show k.toNat = 0 by omega), List.append_nil, if_pos (show gcl g (gF g k.toNat) = 1 by omega)]) hf)
      · skip
        refine zr_aload_n hO (hl := rfl) (j := 0) (hi := rfl) dX3_writeOutline_28 ?_
        refine zr_bipush hO (by decide) dX3_writeOutline_29 ?_
        refine zr_cVv hO zc_X3 zw_X3_275 (c_X3_writesByte hI hf ((zuS_2 (zuA τ1 25 (gput (gwo g k.toNat) (σ.2 25))) 26 ((gwo g k.toNat).length : Int) 25).trans (zuA_at τ1 25 (gput (gwo g k.toNat) (σ.2 25)))) (zuS_at (zuA τ1 25 (gput (gwo g k.toNat) (σ.2 25))) 26 ((gwo g k.toNat).length : Int)) 32 (by omega) (by omega) (by omega)) dX3_writeOutline_31 (zrd_of hf.1) rfl (rest := []) rfl ⟨Nat.le_of_ble_eq_true rfl, Nat.le_of_ble_eq_true rfl⟩ (Nat.le_of_ble_eq_true rfl) (Nat.le_refl _) (Nat.le_refl _) (fun h hx => ?_)
        have hf : zRf r ad (zuS (zuA (zuS (zuA τ1 25 (gput (gwo g k.toNat) (σ.2 25))) 26 ((gwo g k.toNat).length : Int)) 25 (gput ((gwo g k.toNat) ++ [32]) (σ.2 25))) 26 (((gwo g k.toNat) ++ [32]).length : Int)) h0 h := hx
        have hf : zRf r ad (zuS (zuA τ1 25 (gput ((gwo g k.toNat) ++ [32]) (σ.2 25))) 26 (((gwo g k.toNat) ++ [32]).length : Int)) h0 h := zRf_eq (ztx_2 _ _ _ _ _) hf
        refine zr_aload_n hO (hl := rfl) (j := 0) (hi := rfl) dX3_writeOutline_34 ?_
        refine zr_aload_n hO (hl := rfl) (j := 0) (hi := rfl) dX3_writeOutline_35 ?_
        refine zs_arr hO hf 18 dX3_writeOutline_36 q2988 (Nat.le_of_ble_eq_true rfl) rfl ?_
        refine zr_iload_n hO (hl := rfl) (j := 1) (hi := rfl) dX3_writeOutline_39 ?_
        refine zs_ild hO hf 18 (f := τ1.2 18) (n := 960) (j := k.toNat) dX3_writeOutline_40 rfl rfl rfl rfl (by omega) (by omega) rfl (fun ⟨r14a, r14b⟩ => ?_)
        rw [show ((τ1.2 18) k.toNat) = gV g k.toNat from hrk.2.2.2.2.1]
        refine zr_cVv hO zc_X3 zw_X3_272 (c_X3_writesNumber4 hI hf ((zuS_2 (zuA τ1 25 (gput ((gwo g k.toNat) ++ [32]) (σ.2 25))) 26 (((gwo g k.toNat) ++ [32]).length : Int) 25).trans (zuA_at τ1 25 (gput ((gwo g k.toNat) ++ [32]) (σ.2 25)))) (zuS_at (zuA τ1 25 (gput ((gwo g k.toNat) ++ [32]) (σ.2 25))) 26 (((gwo g k.toNat) ++ [32]).length : Int)) (gV g k.toNat) (by omega) (by omega) (by (try simp only [List.length_append, List.length_cons, List.length_nil]); omega)) dX3_writeOutline_41 (zrd_of hf.1) rfl (rest := []) rfl ⟨Nat.le_of_ble_eq_true rfl, Nat.le_of_ble_eq_true rfl⟩ (Nat.le_of_ble_eq_true rfl) (Nat.le_refl _) (Nat.le_refl _) (fun h hx => ?_)
        have hf : zRf r ad (zuS (zuA (zuS (zuA τ1 25 (gput ((gwo g k.toNat) ++ [32]) (σ.2 25))) 26 (((gwo g k.toNat) ++ [32]).length : Int)) 25 (gput (((gwo g k.toNat) ++ [32]) ++ gnum 4 (gV g k.toNat)) (σ.2 25))) 26 ((((gwo g k.toNat) ++ [32]) ++ gnum 4 (gV g k.toNat)).length : Int)) h0 h := hx
        have hf : zRf r ad (zuS (zuA τ1 25 (gput (((gwo g k.toNat) ++ [32]) ++ gnum 4 (gV g k.toNat)) (σ.2 25))) 26 ((((gwo g k.toNat) ++ [32]) ++ gnum 4 (gV g k.toNat)).length : Int)) h0 h := zRf_eq (ztx_2 _ _ _ _ _) hf
        refine zr_aload_n hO (hl := rfl) (j := 0) (hi := rfl) dX3_writeOutline_44 ?_
        refine zr_bipush hO (by decide) dX3_writeOutline_45 ?_
        refine zr_cVv hO zc_X3 zw_X3_275 (c_X3_writesByte hI hf ((zuS_2 (zuA τ1 25 (gput (((gwo g k.toNat) ++ [32]) ++ gnum 4 (gV g k.toNat)) (σ.2 25))) 26 ((((gwo g k.toNat) ++ [32]) ++ gnum 4 (gV g k.toNat)).length : Int) 25).trans (zuA_at τ1 25 (gput (((gwo g k.toNat) ++ [32]) ++ gnum 4 (gV g k.toNat)) (σ.2 25)))) (zuS_at (zuA τ1 25 (gput (((gwo g k.toNat) ++ [32]) ++ gnum 4 (gV g k.toNat)) (σ.2 25))) 26 ((((gwo g k.toNat) ++ [32]) ++ gnum 4 (gV g k.toNat)).length : Int)) 47 (by omega) (by omega) (by (try simp only [List.length_append, List.length_cons, List.length_nil]); omega)) dX3_writeOutline_47 (zrd_of hf.1) rfl (rest := []) rfl ⟨Nat.le_of_ble_eq_true rfl, Nat.le_of_ble_eq_true rfl⟩ (Nat.le_of_ble_eq_true rfl) (Nat.le_refl _) (Nat.le_refl _) (fun h hx => ?_)
        have hf : zRf r ad (zuS (zuA (zuS (zuA τ1 25 (gput (((gwo g k.toNat) ++ [32]) ++ gnum 4 (gV g k.toNat)) (σ.2 25))) 26 ((((gwo g k.toNat) ++ [32]) ++ gnum 4 (gV g k.toNat)).length : Int)) 25 (gput ((((gwo g k.toNat) ++ [32]) ++ gnum 4 (gV g k.toNat)) ++ [47]) (σ.2 25))) 26 (((((gwo g k.toNat) ++ [32]) ++ gnum 4 (gV g k.toNat)) ++ [47]).length : Int)) h0 h := hx
        have hf : zRf r ad (zuS (zuA τ1 25 (gput ((((gwo g k.toNat) ++ [32]) ++ gnum 4 (gV g k.toNat)) ++ [47]) (σ.2 25))) 26 (((((gwo g k.toNat) ++ [32]) ++ gnum 4 (gV g k.toNat)) ++ [47]).length : Int)) h0 h := zRf_eq (ztx_2 _ _ _ _ _) hf
        refine zr_aload_n hO (hl := rfl) (j := 0) (hi := rfl) dX3_writeOutline_50 ?_
        refine zr_aload_n hO (hl := rfl) (j := 0) (hi := rfl) dX3_writeOutline_51 ?_
        refine zs_arr hO hf 14 dX3_writeOutline_52 q2984 (Nat.le_of_ble_eq_true rfl) rfl ?_
        refine zr_iload_n hO (hl := rfl) (j := 1) (hi := rfl) dX3_writeOutline_55 ?_
        refine zs_ild hO hf 14 (f := τ1.2 14) (n := 960) (j := k.toNat) dX3_writeOutline_56 rfl rfl rfl rfl (by omega) (by omega) rfl (fun ⟨r17a, r17b⟩ => ?_)
        rw [show ((τ1.2 14) k.toNat) = gF g k.toNat from hrk.1]
        refine zr_cVv hO zc_X3 zw_X3_272 (c_X3_writesNumber4 hI hf ((zuS_2 (zuA τ1 25 (gput ((((gwo g k.toNat) ++ [32]) ++ gnum 4 (gV g k.toNat)) ++ [47]) (σ.2 25))) 26 (((((gwo g k.toNat) ++ [32]) ++ gnum 4 (gV g k.toNat)) ++ [47]).length : Int) 25).trans (zuA_at τ1 25 (gput ((((gwo g k.toNat) ++ [32]) ++ gnum 4 (gV g k.toNat)) ++ [47]) (σ.2 25)))) (zuS_at (zuA τ1 25 (gput ((((gwo g k.toNat) ++ [32]) ++ gnum 4 (gV g k.toNat)) ++ [47]) (σ.2 25))) 26 (((((gwo g k.toNat) ++ [32]) ++ gnum 4 (gV g k.toNat)) ++ [47]).length : Int)) (gF g k.toNat) (by omega) (by omega) (by (try simp only [List.length_append, List.length_cons, List.length_nil]); omega)) dX3_writeOutline_57 (zrd_of hf.1) rfl (rest := []) rfl ⟨Nat.le_of_ble_eq_true rfl, Nat.le_of_ble_eq_true rfl⟩ (Nat.le_of_ble_eq_true rfl) (Nat.le_refl _) (Nat.le_refl _) (fun h hx => ?_)
        have hf : zRf r ad (zuS (zuA (zuS (zuA τ1 25 (gput ((((gwo g k.toNat) ++ [32]) ++ gnum 4 (gV g k.toNat)) ++ [47]) (σ.2 25))) 26 (((((gwo g k.toNat) ++ [32]) ++ gnum 4 (gV g k.toNat)) ++ [47]).length : Int)) 25 (gput (((((gwo g k.toNat) ++ [32]) ++ gnum 4 (gV g k.toNat)) ++ [47]) ++ gnum 4 (gF g k.toNat)) (σ.2 25))) 26 ((((((gwo g k.toNat) ++ [32]) ++ gnum 4 (gV g k.toNat)) ++ [47]) ++ gnum 4 (gF g k.toNat)).length : Int)) h0 h := hx
        have hf : zRf r ad (zuS (zuA τ1 25 (gput (((((gwo g k.toNat) ++ [32]) ++ gnum 4 (gV g k.toNat)) ++ [47]) ++ gnum 4 (gF g k.toNat)) (σ.2 25))) 26 ((((((gwo g k.toNat) ++ [32]) ++ gnum 4 (gV g k.toNat)) ++ [47]) ++ gnum 4 (gF g k.toNat)).length : Int)) h0 h := zRf_eq (ztx_2 _ _ _ _ _) hf
        refine zr_aload_n hO (hl := rfl) (j := 0) (hi := rfl) dX3_writeOutline_60 ?_
        refine zr_bipush hO (by decide) dX3_writeOutline_61 ?_
        refine zr_cVv hO zc_X3 zw_X3_275 (c_X3_writesByte hI hf ((zuS_2 (zuA τ1 25 (gput (((((gwo g k.toNat) ++ [32]) ++ gnum 4 (gV g k.toNat)) ++ [47]) ++ gnum 4 (gF g k.toNat)) (σ.2 25))) 26 ((((((gwo g k.toNat) ++ [32]) ++ gnum 4 (gV g k.toNat)) ++ [47]) ++ gnum 4 (gF g k.toNat)).length : Int) 25).trans (zuA_at τ1 25 (gput (((((gwo g k.toNat) ++ [32]) ++ gnum 4 (gV g k.toNat)) ++ [47]) ++ gnum 4 (gF g k.toNat)) (σ.2 25)))) (zuS_at (zuA τ1 25 (gput (((((gwo g k.toNat) ++ [32]) ++ gnum 4 (gV g k.toNat)) ++ [47]) ++ gnum 4 (gF g k.toNat)) (σ.2 25))) 26 ((((((gwo g k.toNat) ++ [32]) ++ gnum 4 (gV g k.toNat)) ++ [47]) ++ gnum 4 (gF g k.toNat)).length : Int)) 45 (by omega) (by omega) (by (try simp only [List.length_append, List.length_cons, List.length_nil]); omega)) dX3_writeOutline_63 (zrd_of hf.1) rfl (rest := []) rfl ⟨Nat.le_of_ble_eq_true rfl, Nat.le_of_ble_eq_true rfl⟩ (Nat.le_of_ble_eq_true rfl) (Nat.le_refl _) (Nat.le_refl _) (fun h hx => ?_)
        have hf : zRf r ad (zuS (zuA (zuS (zuA τ1 25 (gput (((((gwo g k.toNat) ++ [32]) ++ gnum 4 (gV g k.toNat)) ++ [47]) ++ gnum 4 (gF g k.toNat)) (σ.2 25))) 26 ((((((gwo g k.toNat) ++ [32]) ++ gnum 4 (gV g k.toNat)) ++ [47]) ++ gnum 4 (gF g k.toNat)).length : Int)) 25 (gput ((((((gwo g k.toNat) ++ [32]) ++ gnum 4 (gV g k.toNat)) ++ [47]) ++ gnum 4 (gF g k.toNat)) ++ [45]) (σ.2 25))) 26 (((((((gwo g k.toNat) ++ [32]) ++ gnum 4 (gV g k.toNat)) ++ [47]) ++ gnum 4 (gF g k.toNat)) ++ [45]).length : Int)) h0 h := hx
        have hf : zRf r ad (zuS (zuA τ1 25 (gput ((((((gwo g k.toNat) ++ [32]) ++ gnum 4 (gV g k.toNat)) ++ [47]) ++ gnum 4 (gF g k.toNat)) ++ [45]) (σ.2 25))) 26 (((((((gwo g k.toNat) ++ [32]) ++ gnum 4 (gV g k.toNat)) ++ [47]) ++ gnum 4 (gF g k.toNat)) ++ [45]).length : Int)) h0 h := zRf_eq (ztx_2 _ _ _ _ _) hf
        refine zr_aload_n hO (hl := rfl) (j := 0) (hi := rfl) dX3_writeOutline_66 ?_
        refine zr_aload_n hO (hl := rfl) (j := 0) (hi := rfl) dX3_writeOutline_67 ?_
        refine zs_arr hO hf 15 dX3_writeOutline_68 q2985 (Nat.le_of_ble_eq_true rfl) rfl ?_
        refine zr_iload_n hO (hl := rfl) (j := 1) (hi := rfl) dX3_writeOutline_71 ?_
        refine zs_ild hO hf 15 (f := τ1.2 15) (n := 960) (j := k.toNat) dX3_writeOutline_72 rfl rfl rfl rfl (by omega) (by omega) rfl (fun ⟨r20a, r20b⟩ => ?_)
        rw [show ((τ1.2 15) k.toNat) = gM g k.toNat from hrk.2.1]
        refine zr_cVv hO zc_X3 zw_X3_272 (c_X3_writesNumber4 hI hf ((zuS_2 (zuA τ1 25 (gput ((((((gwo g k.toNat) ++ [32]) ++ gnum 4 (gV g k.toNat)) ++ [47]) ++ gnum 4 (gF g k.toNat)) ++ [45]) (σ.2 25))) 26 (((((((gwo g k.toNat) ++ [32]) ++ gnum 4 (gV g k.toNat)) ++ [47]) ++ gnum 4 (gF g k.toNat)) ++ [45]).length : Int) 25).trans (zuA_at τ1 25 (gput ((((((gwo g k.toNat) ++ [32]) ++ gnum 4 (gV g k.toNat)) ++ [47]) ++ gnum 4 (gF g k.toNat)) ++ [45]) (σ.2 25)))) (zuS_at (zuA τ1 25 (gput ((((((gwo g k.toNat) ++ [32]) ++ gnum 4 (gV g k.toNat)) ++ [47]) ++ gnum 4 (gF g k.toNat)) ++ [45]) (σ.2 25))) 26 (((((((gwo g k.toNat) ++ [32]) ++ gnum 4 (gV g k.toNat)) ++ [47]) ++ gnum 4 (gF g k.toNat)) ++ [45]).length : Int)) (gM g k.toNat) (by omega) (by omega) (by (try simp only [List.length_append, List.length_cons, List.length_nil]); omega)) dX3_writeOutline_73 (zrd_of hf.1) rfl (rest := []) rfl ⟨Nat.le_of_ble_eq_true rfl, Nat.le_of_ble_eq_true rfl⟩ (Nat.le_of_ble_eq_true rfl) (Nat.le_refl _) (Nat.le_refl _) (fun h hx => ?_)
        have hf : zRf r ad (zuS (zuA (zuS (zuA τ1 25 (gput ((((((gwo g k.toNat) ++ [32]) ++ gnum 4 (gV g k.toNat)) ++ [47]) ++ gnum 4 (gF g k.toNat)) ++ [45]) (σ.2 25))) 26 (((((((gwo g k.toNat) ++ [32]) ++ gnum 4 (gV g k.toNat)) ++ [47]) ++ gnum 4 (gF g k.toNat)) ++ [45]).length : Int)) 25 (gput (((((((gwo g k.toNat) ++ [32]) ++ gnum 4 (gV g k.toNat)) ++ [47]) ++ gnum 4 (gF g k.toNat)) ++ [45]) ++ gnum 4 (gM g k.toNat)) (σ.2 25))) 26 ((((((((gwo g k.toNat) ++ [32]) ++ gnum 4 (gV g k.toNat)) ++ [47]) ++ gnum 4 (gF g k.toNat)) ++ [45]) ++ gnum 4 (gM g k.toNat)).length : Int)) h0 h := hx
        have hf : zRf r ad (zuS (zuA τ1 25 (gput (((((((gwo g k.toNat) ++ [32]) ++ gnum 4 (gV g k.toNat)) ++ [47]) ++ gnum 4 (gF g k.toNat)) ++ [45]) ++ gnum 4 (gM g k.toNat)) (σ.2 25))) 26 ((((((((gwo g k.toNat) ++ [32]) ++ gnum 4 (gV g k.toNat)) ++ [47]) ++ gnum 4 (gF g k.toNat)) ++ [45]) ++ gnum 4 (gM g k.toNat)).length : Int)) h0 h := zRf_eq (ztx_2 _ _ _ _ _) hf
        refine zr_aload_n hO (hl := rfl) (j := 0) (hi := rfl) dX3_writeOutline_76 ?_
        refine zr_iload_n hO (hl := rfl) (j := 1) (hi := rfl) dX3_writeOutline_77 ?_
        refine zr_cVi hO zc_X3 zw_X3_215 (c_X3_isFolded hI hf ((hs1.2 1 rfl).trans hg) ((zuS_2 (zuA τ1 25 (gput (((((((gwo g k.toNat) ++ [32]) ++ gnum 4 (gV g k.toNat)) ++ [47]) ++ gnum 4 (gF g k.toNat)) ++ [45]) ++ gnum 4 (gM g k.toNat)) (σ.2 25))) 26 ((((((((gwo g k.toNat) ++ [32]) ++ gnum 4 (gV g k.toNat)) ++ [47]) ++ gnum 4 (gF g k.toNat)) ++ [45]) ++ gnum 4 (gM g k.toNat)).length : Int) 14).trans (zuA_ne τ1 25 (gput (((((((gwo g k.toNat) ++ [32]) ++ gnum 4 (gV g k.toNat)) ++ [47]) ++ gnum 4 (gF g k.toNat)) ++ [45]) ++ gnum 4 (gM g k.toNat)) (σ.2 25)) (j := 14) (by decide))) k (by omega) (by omega) ((by rw [hrk.1]; omega)) ((by rw [hrk.1]; omega))) dX3_writeOutline_78 (zrd_of hf.1) rfl (rest := []) rfl ⟨Nat.le_of_ble_eq_true rfl, Nat.le_of_ble_eq_true rfl⟩ (Nat.le_of_ble_eq_true rfl) (Nat.le_refl _) (Nat.le_refl _) (fun x h hx => ?_)
        obtain ⟨hx, hf⟩ := hx
        have hx : x = zB (gcl g ((τ1.2 14) k.toNat) = 1) := hx
        subst hx
        rw [show (zB (gcl g ((τ1.2 14) k.toNat) = 1)) = zB (gcl g (gF g k.toNat) = 1) from (by rw [hrk.1])]
        refine zr_if_eq hO (zR_B _) (tgt := 90) dX3_writeOutline_81 rfl (fun c81 => ?_) (fun c81 => ?_)
        · skip
          have c81 := zB_eq c81
          refine zr_iinc hO (L' := [(1, zi (k + 1)), (0, zp r)]) (j := 1) dX3_writeOutline_90 rfl (Nat.le_of_ble_eq_true rfl) rfl ?_
          refine zr_goto hO (tgt := 16) dX3_writeOutline_93 rfl ?_
          refine zV.loc [1, 0] rfl ?_
          exact ih16 _ (by omega) (k + 1) rfl (by omega) (by omega) h (zRf_eq (by rw [show (k + 1).toNat = k.toNat + 1 by omega, gwo, if_neg (show ¬ k.toNat = 0 by omega), if_neg (show ¬ gcl g (gF g k.toNat) = 1 by omega), List.append_nil]) hf)
        · skip
          have c81 := zB_ne c81
          refine zr_aload_n hO (hl := rfl) (j := 0) (hi := rfl) dX3_writeOutline_84 ?_
          refine zr_bipush hO (by decide) dX3_writeOutline_85 ?_
          refine zr_cVv hO zc_X3 zw_X3_275 (c_X3_writesByte hI hf ((zuS_2 (zuA τ1 25 (gput (((((((gwo g k.toNat) ++ [32]) ++ gnum 4 (gV g k.toNat)) ++ [47]) ++ gnum 4 (gF g k.toNat)) ++ [45]) ++ gnum 4 (gM g k.toNat)) (σ.2 25))) 26 ((((((((gwo g k.toNat) ++ [32]) ++ gnum 4 (gV g k.toNat)) ++ [47]) ++ gnum 4 (gF g k.toNat)) ++ [45]) ++ gnum 4 (gM g k.toNat)).length : Int) 25).trans (zuA_at τ1 25 (gput (((((((gwo g k.toNat) ++ [32]) ++ gnum 4 (gV g k.toNat)) ++ [47]) ++ gnum 4 (gF g k.toNat)) ++ [45]) ++ gnum 4 (gM g k.toNat)) (σ.2 25)))) (zuS_at (zuA τ1 25 (gput (((((((gwo g k.toNat) ++ [32]) ++ gnum 4 (gV g k.toNat)) ++ [47]) ++ gnum 4 (gF g k.toNat)) ++ [45]) ++ gnum 4 (gM g k.toNat)) (σ.2 25))) 26 ((((((((gwo g k.toNat) ++ [32]) ++ gnum 4 (gV g k.toNat)) ++ [47]) ++ gnum 4 (gF g k.toNat)) ++ [45]) ++ gnum 4 (gM g k.toNat)).length : Int)) 42 (by omega) (by omega) (by (try simp only [List.length_append, List.length_cons, List.length_nil]); omega)) dX3_writeOutline_87 (zrd_of hf.1) rfl (rest := []) rfl ⟨Nat.le_of_ble_eq_true rfl, Nat.le_of_ble_eq_true rfl⟩ (Nat.le_of_ble_eq_true rfl) (Nat.le_refl _) (Nat.le_refl _) (fun h hx => ?_)
          have hf : zRf r ad (zuS (zuA (zuS (zuA τ1 25 (gput (((((((gwo g k.toNat) ++ [32]) ++ gnum 4 (gV g k.toNat)) ++ [47]) ++ gnum 4 (gF g k.toNat)) ++ [45]) ++ gnum 4 (gM g k.toNat)) (σ.2 25))) 26 ((((((((gwo g k.toNat) ++ [32]) ++ gnum 4 (gV g k.toNat)) ++ [47]) ++ gnum 4 (gF g k.toNat)) ++ [45]) ++ gnum 4 (gM g k.toNat)).length : Int)) 25 (gput ((((((((gwo g k.toNat) ++ [32]) ++ gnum 4 (gV g k.toNat)) ++ [47]) ++ gnum 4 (gF g k.toNat)) ++ [45]) ++ gnum 4 (gM g k.toNat)) ++ [42]) (σ.2 25))) 26 (((((((((gwo g k.toNat) ++ [32]) ++ gnum 4 (gV g k.toNat)) ++ [47]) ++ gnum 4 (gF g k.toNat)) ++ [45]) ++ gnum 4 (gM g k.toNat)) ++ [42]).length : Int)) h0 h := hx
          have hf : zRf r ad (zuS (zuA τ1 25 (gput ((((((((gwo g k.toNat) ++ [32]) ++ gnum 4 (gV g k.toNat)) ++ [47]) ++ gnum 4 (gF g k.toNat)) ++ [45]) ++ gnum 4 (gM g k.toNat)) ++ [42]) (σ.2 25))) 26 (((((((((gwo g k.toNat) ++ [32]) ++ gnum 4 (gV g k.toNat)) ++ [47]) ++ gnum 4 (gF g k.toNat)) ++ [45]) ++ gnum 4 (gM g k.toNat)) ++ [42]).length : Int)) h0 h := zRf_eq (ztx_2 _ _ _ _ _) hf
          refine zr_iinc hO (L' := [(1, zi (k + 1)), (0, zp r)]) (j := 1) dX3_writeOutline_90 rfl (Nat.le_of_ble_eq_true rfl) rfl ?_
          refine zr_goto hO (tgt := 16) dX3_writeOutline_93 rfl ?_
          refine zV.loc [1, 0] rfl ?_
          exact ih16 _ (by omega) (k + 1) rfl (by omega) (by omega) h (zRf_eq (by rw [show (k + 1).toNat = k.toNat + 1 by omega, gwo, if_neg (show ¬ k.toNat = 0 by omega), if_pos (show gcl g (gF g k.toNat) = 1 by omega)]) hf)
  refine zV.loc [1, 0] rfl ?_
  exact hl16 _ 0 rfl (by omega) (by omega) h hf
theorem c_X3_textByte {G : zG} {r : Nat} {ad : Nat → Nat} {h0 : zHp} (hI : zRI r ad) {σ : zS} {h : zHp} (hf : zRf r ad σ h0 h) {b : Nat → Int} (hb : σ.2 25 = b) {t : Int} (ht : σ.1 26 = t) (i : Int) (hi : zR i) (ht1 : 0 ≤ t) (ht2 : t ≤ 11000) : zC G yX3_textByte cX3_textByte 2 (some Jvm.ClassFile.FieldType.int) 1 22 0 0 [zp r, zi i] h (zPi (fun x h' => x = (if 0 ≤ i ∧ i ≤ t - 1 then b i.toNat else 0) ∧ ∃ τ : zS, τ.1 0 = (1 - zB (0 ≤ i ∧ i ≤ t - 1)) ∧ zCo σ τ ∧ zRf r ad τ h0 h') zNo) := by
  refine zC.of zpn_X3 (Nat.le_of_ble_eq_true rfl) (L := [(0, zp r), (1, zi i)]) rfl (fun K hO => ?_)
  obtain ⟨hia, hib⟩ := hi
  refine zr_aload_n hO (hl := rfl) (j := 0) (hi := rfl) dX3_textByte_0 ?_
  refine zr_iload_n hO (hl := rfl) (j := 1) (hi := rfl) dX3_textByte_1 ?_
  refine zr_iconst hO dX3_textByte_2 ?_
  refine zr_aload_n hO (hl := rfl) (j := 0) (hi := rfl) dX3_textByte_3 ?_
  refine zs_get hO hf 26 (x := t) dX3_textByte_4 q2996 (Nat.le_of_ble_eq_true rfl) (congrArg (fun z => some (zi z)) ht) (fun ⟨r1a, r1b⟩ => ?_)
  refine zr_iconst hO dX3_textByte_7 ?_
  refine zr_isub hO dX3_textByte_8 ?_
  refine zr_cSi hO zw_X3_95 (c_X3_in i 0 (t - 1) (⟨by omega, by omega⟩) (⟨by omega, by omega⟩) (⟨by omega, by omega⟩)) dX3_textByte_9 rfl (rest := [zp r]) rfl ⟨Nat.le_of_ble_eq_true rfl, Nat.le_of_ble_eq_true rfl⟩ (Nat.le_of_ble_eq_true rfl) (Nat.le_refl _) (Nat.le_refl _) (fun x h hx => ?_)
  obtain ⟨hx, rfl⟩ := hx
  have hx : x = zB (0 ≤ i ∧ i ≤ (t - 1)) := hx
  subst hx
  refine zr_cVi hO zc_X3 zw_X3_111 (c_X3_may hI hf (zB (0 ≤ i ∧ i ≤ (t - 1))) (zB_01 _)) dX3_textByte_12 (zrd_of hf.1) rfl (rest := []) rfl ⟨Nat.le_of_ble_eq_true rfl, Nat.le_of_ble_eq_true rfl⟩ (Nat.le_of_ble_eq_true rfl) (Nat.le_refl _) (Nat.le_refl _) (fun x h hx => ?_)
  obtain ⟨hx, hf⟩ := hx
  have hx : x = (zB (0 ≤ i ∧ i ≤ (t - 1))) := hx
  subst hx
  have hf : zRf r ad (zuS σ 0 (1 - (zB (0 ≤ i ∧ i ≤ (t - 1))))) h0 h := hf
  refine zr_if_eq hO (zR_B _) (tgt := 27) dX3_textByte_15 rfl (fun c15 => ?_) (fun c15 => ?_)
  · skip
    have c15 := zB_eq c15
    refine zr_iconst hO dX3_textByte_27 ?_
    exact zr_ireturn hO dX3_textByte_28 ⟨(by rw [if_neg c15]), (zuS σ 0 (1 - (zB (0 ≤ i ∧ i ≤ (t - 1))))), (rfl), ((zCo.refl σ).uS (k := 0) (by decide) (1 - (zB (0 ≤ i ∧ i ≤ (t - 1))))), hf⟩
  · skip
    have c15 := zB_ne c15
    refine zr_aload_n hO (hl := rfl) (j := 0) (hi := rfl) dX3_textByte_18 ?_
    refine zs_arr hO hf 25 dX3_textByte_19 q2995 (Nat.le_of_ble_eq_true rfl) rfl ?_
    refine zr_iload_n hO (hl := rfl) (j := 1) (hi := rfl) dX3_textByte_22 ?_
    refine zs_bld hO hf 25 (f := b) (n := 11000) (j := i.toNat) dX3_textByte_23 rfl rfl rfl hb (by omega) (by omega) rfl (fun ⟨r3a, r3b⟩ => ?_)
    refine zr_goto hO (tgt := 28) dX3_textByte_24 rfl ?_
    exact zr_ireturn hO dX3_textByte_28 ⟨(by rw [if_pos c15]), (zuS σ 0 (1 - (zB (0 ≤ i ∧ i ≤ (t - 1))))), (rfl), ((zCo.refl σ).uS (k := 0) (by decide) (1 - (zB (0 ≤ i ∧ i ≤ (t - 1))))), hf⟩
