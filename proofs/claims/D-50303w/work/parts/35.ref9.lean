/-! THE REFERENCE: reading (printed by gen/refs.py) -/
theorem c_X3_comes {G : zG} {r : Nat} {ad : Nat → Nat} {h0 : zHp} (hI : zRI r ad) {σ : zS} {h : zHp} (hf : zRf r ad σ h0 h) {g : Nat → Int} (hg : σ.2 1 = g) (w1 : 0 ≤ g 0) (w2 : g 0 ≤ 79) (w4 : 0 ≤ g 1) (w5 : g 1 ≤ 1000000) : zC G yX3_comes cX3_comes 2 (some Jvm.ClassFile.FieldType.int) 0 0 0 0 [zp r] h (zPi (fun x h' => x = 35 + 27 * g 0 ∧ zRf r ad (zuA σ 1 (gcm g)) h0 h') zNo) := by
  refine zC.of zpn_X3 (Nat.le_of_ble_eq_true rfl) (L := [(0, zp r)]) rfl (fun K hO => ?_)
  refine zr_bipush hO (by decide) dX3_comes_0 ?_
  refine zr_bipush hO (by decide) dX3_comes_2 ?_
  refine zr_aload_n hO (hl := rfl) (j := 0) (hi := rfl) dX3_comes_4 ?_
  refine zs_arr hO hf 1 dX3_comes_5 q2971 (Nat.le_of_ble_eq_true rfl) rfl ?_
  refine zr_iconst hO dX3_comes_8 ?_
  refine zs_ild hO hf 1 (f := g) (n := 2195) (j := 0) dX3_comes_9 rfl rfl rfl hg (by omega) (by omega) rfl (fun ⟨r1a, r1b⟩ => ?_)
  refine zr_imul hO dX3_comes_10 ?_
  refine zr_iadd hO dX3_comes_11 ?_
  refine zr_istore_n hO (L' := [(1, zi (35 + (27 * (g 0)))), (0, zp r)]) (hi := rfl) dX3_comes_12 (Nat.le_of_ble_eq_true rfl) rfl ?_
  refine zr_aload_n hO (hl := rfl) (j := 1) (hi := rfl) dX3_comes_13 ?_
  refine zs_arr hO hf 1 dX3_comes_14 q2971 (Nat.le_of_ble_eq_true rfl) rfl ?_
  refine zr_iload_n hO (hl := rfl) (j := 0) (hi := rfl) dX3_comes_17 ?_
  refine zr_iconst hO dX3_comes_18 ?_
  refine zr_iadd hO dX3_comes_19 ?_
  refine zr_aload_n hO (hl := rfl) (j := 1) (hi := rfl) dX3_comes_20 ?_
  refine zs_arr hO hf 1 dX3_comes_21 q2971 (Nat.le_of_ble_eq_true rfl) rfl ?_
  refine zr_iconst hO dX3_comes_24 ?_
  refine zs_ild hO hf 1 (f := g) (n := 2195) (j := 1) dX3_comes_25 rfl rfl rfl hg (by omega) (by omega) rfl (fun ⟨r2a, r2b⟩ => ?_)
  refine zs_ist hO hI hf 1 (f := g) (n := 2195) (j := (35 + 27 * g 0).toNat) dX3_comes_26 rfl rfl rfl hg (by omega) (by omega) (by omega) ⟨by omega, by omega⟩ (fun h hf => ?_)
  refine zr_aload_n hO (hl := rfl) (j := 1) (hi := rfl) dX3_comes_27 ?_
  refine zs_arr hO hf 1 dX3_comes_28 q2971 (Nat.le_of_ble_eq_true rfl) rfl ?_
  refine zr_iload_n hO (hl := rfl) (j := 0) (hi := rfl) dX3_comes_31 ?_
  refine zr_iconst hO dX3_comes_32 ?_
  refine zr_iadd hO dX3_comes_33 ?_
  refine zr_iconst hO dX3_comes_34 ?_
  refine zs_ist hO hI hf 1 (f := zset g ((35 + 27 * g 0).toNat) (g 1)) (n := 2195) (j := (35 + 27 * g 0 + 1).toNat) dX3_comes_35 rfl rfl rfl rfl (by omega) (by omega) rfl ⟨by omega, by omega⟩ (fun h hf => ?_)
  refine zr_aload_n hO (hl := rfl) (j := 1) (hi := rfl) dX3_comes_36 ?_
  refine zs_arr hO hf 1 dX3_comes_37 q2971 (Nat.le_of_ble_eq_true rfl) rfl ?_
  refine zr_iload_n hO (hl := rfl) (j := 0) (hi := rfl) dX3_comes_40 ?_
  refine zr_iconst hO dX3_comes_41 ?_
  refine zr_iadd hO dX3_comes_42 ?_
  refine zr_iconst hO dX3_comes_43 ?_
  refine zs_ist hO hI hf 1 (f := zset (zset g ((35 + 27 * g 0).toNat) (g 1)) ((35 + 27 * g 0 + 1).toNat) 0) (n := 2195) (j := (35 + 27 * g 0 + 2).toNat) dX3_comes_44 rfl rfl rfl rfl (by omega) (by omega) rfl ⟨by omega, by omega⟩ (fun h hf => ?_)
  refine zr_aload_n hO (hl := rfl) (j := 1) (hi := rfl) dX3_comes_45 ?_
  refine zs_arr hO hf 1 dX3_comes_46 q2971 (Nat.le_of_ble_eq_true rfl) rfl ?_
  refine zr_iconst hO dX3_comes_49 ?_
  refine zr_dup2 hO rfl rfl dX3_comes_50 ?_
  refine zs_ild hO hf 1 (f := zset (zset (zset g ((35 + 27 * g 0).toNat) (g 1)) ((35 + 27 * g 0 + 1).toNat) 0) ((35 + 27 * g 0 + 2).toNat) 0) (n := 2195) (j := 1) dX3_comes_51 rfl rfl rfl rfl (by omega) (by omega) rfl (fun ⟨r3a, r3b⟩ => ?_)
  rw [show ((zset (zset (zset g ((35 + 27 * g 0).toNat) (g 1)) ((35 + 27 * g 0 + 1).toNat) 0) ((35 + 27 * g 0 + 2).toNat) 0) 1) = g 1 from (by rw [zset_n (by omega), zset_n (by omega), zset_n (by omega)])]
  refine zr_iconst hO dX3_comes_52 ?_
  refine zr_iadd hO dX3_comes_53 ?_
  refine zs_ist hO hI hf 1 (f := zset (zset (zset g ((35 + 27 * g 0).toNat) (g 1)) ((35 + 27 * g 0 + 1).toNat) 0) ((35 + 27 * g 0 + 2).toNat) 0) (n := 2195) (j := 1) dX3_comes_54 rfl rfl rfl rfl (by omega) (by omega) rfl ⟨by omega, by omega⟩ (fun h hf => ?_)
  refine zr_aload_n hO (hl := rfl) (j := 1) (hi := rfl) dX3_comes_55 ?_
  refine zs_arr hO hf 1 dX3_comes_56 q2971 (Nat.le_of_ble_eq_true rfl) rfl ?_
  refine zr_iconst hO dX3_comes_59 ?_
  refine zr_dup2 hO rfl rfl dX3_comes_60 ?_
  refine zs_ild hO hf 1 (f := zset (zset (zset (zset g ((35 + 27 * g 0).toNat) (g 1)) ((35 + 27 * g 0 + 1).toNat) 0) ((35 + 27 * g 0 + 2).toNat) 0) 1 ((g 1) + 1)) (n := 2195) (j := 0) dX3_comes_61 rfl rfl rfl rfl (by omega) (by omega) rfl (fun ⟨r4a, r4b⟩ => ?_)
  rw [show ((zset (zset (zset (zset g ((35 + 27 * g 0).toNat) (g 1)) ((35 + 27 * g 0 + 1).toNat) 0) ((35 + 27 * g 0 + 2).toNat) 0) 1 ((g 1) + 1)) 0) = g 0 from (by rw [zset_n (by omega), zset_n (by omega), zset_n (by omega), zset_n (by omega)])]
  refine zr_iconst hO dX3_comes_62 ?_
  refine zr_iadd hO dX3_comes_63 ?_
  refine zs_ist hO hI hf 1 (f := zset (zset (zset (zset g ((35 + 27 * g 0).toNat) (g 1)) ((35 + 27 * g 0 + 1).toNat) 0) ((35 + 27 * g 0 + 2).toNat) 0) 1 ((g 1) + 1)) (n := 2195) (j := 0) dX3_comes_64 rfl rfl rfl rfl (by omega) (by omega) rfl ⟨by omega, by omega⟩ (fun h hf => ?_)
  refine zr_iload_n hO (hl := rfl) (j := 0) (hi := rfl) dX3_comes_65 ?_
  exact zr_ireturn hO dX3_comes_66 ⟨rfl, zRf_eq (by unfold gcm; rw [zuA_uA, zuA_uA, zuA_uA, zuA_uA]) hf⟩
theorem c_X3_four {G : zG} {r : Nat} {ad : Nat → Nat} {h0 : zHp} (hI : zRI r ad) {σ : zS} {h : zHp} (hf : zRf r ad σ h0 h) {b : Nat → Int} (hb : σ.2 7 = b) {q : Int} (hq : σ.1 8 = q) (v : Int) (hv : zR v) (h1 : 0 ≤ q) (h2 : q ≤ 696) : zC G yX3_four cX3_four 3 none 0 0 0 0 [zp r, zi v] h (zPv (fun h' => zRf r ad (zuS (zuA σ 7 (gf4 b q v 4)) 8 (q + 4)) h0 h') zNo) := by
  refine zC.of zpn_X3 (Nat.le_of_ble_eq_true rfl) (L := [(0, zp r), (1, zi v)]) rfl (fun K hO => ?_)
  obtain ⟨hva, hvb⟩ := hv
  refine zr_iconst hO dX3_four_0 ?_
  refine zr_istore_n hO (L' := [(2, zi 3), (0, zp r), (1, zi v)]) (hi := rfl) dX3_four_1 (Nat.le_of_ble_eq_true rfl) rfl ?_
  have hl2 : ∀ (n9 : Nat) (x : Int), (x + 1).toNat = n9 → ∀ (i1 : -1 ≤ x) (i2 : x ≤ 3) (h : zHp) (hf : zRf r ad (zuS (zuA σ 7 (gf4 b q v (3 - x).toNat)) 8 (q + (3 - x))) h0 h), zV G K 0 0 h 2 [(0, zp r), (1, zi v), (2, zi x)] [] := by
    intro n9
    induction n9 using Nat.strongRecOn with
    | _ n9 ih2 =>
    intro x hn2 i1 i2 h hf
    refine zr_iload_n hO (hl := rfl) (j := 2) (hi := rfl) dX3_four_2 ?_
    refine zr_if_lt hO ⟨by omega, by omega⟩ (tgt := 38) dX3_four_3 rfl (fun c3 => ?_) (fun c3 => ?_)
    · skip
      exact zr_return hO dX3_four_38 (zRf_eq (by rw [show x = -1 by omega]; rfl) hf)
    · skip
      refine zr_aload_n hO (hl := rfl) (j := 0) (hi := rfl) dX3_four_6 ?_
      refine zs_arr hO hf 7 dX3_four_7 q2977 (Nat.le_of_ble_eq_true rfl) rfl ?_
      refine zr_aload_n hO (hl := rfl) (j := 0) (hi := rfl) dX3_four_10 ?_
      refine zs_get hO hf 8 (x := q + (3 - x)) dX3_four_11 q2978 (Nat.le_of_ble_eq_true rfl) rfl (fun ⟨r1a, r1b⟩ => ?_)
      refine zr_iload_n hO (hl := rfl) (j := 1) (hi := rfl) dX3_four_14 ?_
      refine zr_bipush hO (by decide) dX3_four_15 ?_
      refine zr_iload_n hO (hl := rfl) (j := 2) (hi := rfl) dX3_four_17 ?_
      refine zr_imul hO dX3_four_18 ?_
      refine zr_ishr hO (x := (zI v >>> (zI (8 * x) &&& 31)).toInt) (zI_tI _) dX3_four_19 ?_
      refine zr_i2b hO (x := gby v x) (zI_tI _) dX3_four_20 ?_
      refine zs_bst hO hI hf 7 (f := gf4 b q v (3 - x).toNat) (n := 700) (j := (q + (3 - x)).toNat) dX3_four_21 rfl rfl rfl rfl (by omega) (by omega) rfl (gby_in v x) (fun h hf => ?_)
      refine zr_aload_n hO (hl := rfl) (j := 0) (hi := rfl) dX3_four_22 ?_
      refine zr_dup hO rfl dX3_four_23 ?_
      refine zs_get hO hf 8 (x := q + (3 - x)) dX3_four_24 q2978 (Nat.le_of_ble_eq_true rfl) rfl (fun ⟨r2a, r2b⟩ => ?_)
      refine zr_iconst hO dX3_four_27 ?_
      refine zr_iadd hO dX3_four_28 ?_
      refine zs_put hO hI hf 8 dX3_four_29 q2978 (Nat.le_of_ble_eq_true rfl) rfl rfl rfl ⟨by omega, by omega⟩ (fun h hf => ?_)
      refine zr_iinc hO (L' := [(2, zi (x + (-1))), (0, zp r), (1, zi v)]) (j := 2) dX3_four_32 rfl (Nat.le_of_ble_eq_true rfl) rfl ?_
      refine zr_goto hO (tgt := 2) dX3_four_35 rfl ?_
      refine zV.loc [1, 2, 0] rfl ?_
      exact ih2 _ (by omega) (x + (-1)) rfl (by omega) (by omega) h (zRf_eq (by rw [show (3 - (x + (-1))).toNat = (3 - x).toNat + 1 by omega, gf4, show q + (3 - x).toNat = q + (3 - x) by omega, show (3 : Int) - (3 - x).toNat = x by omega, show q + (3 - (x + (-1))) = q + (3 - x) + 1 by omega]; exact zuSA_2 _ _ _ _ _) hf)
  refine zV.loc [1, 2, 0] rfl ?_
  exact hl2 _ 3 rfl (by omega) (by omega) h (zRf_eq (by rw [show ((3 : Int) - 3).toNat = 0 from rfl, gf4, zuA_id' 7 hb, show q + (3 - 3) = q by omega, zuS_id' 8 hq]) hf)
theorem zw_X3_88 : zYw RX3 RX3 88 yX3_four cX3_four 3 none 1 := ⟨q3063, q3065, qs44, q116, q3066, rfl, ⟨by decide +kernel, by decide +kernel, by decide +kernel⟩⟩
theorem c_X3_append {G : zG} {r : Nat} {ad : Nat → Nat} {h0 : zHp} (hI : zRI r ad) {σ : zS} {h : zHp} (hf : zRf r ad σ h0 h) {u : Nat → Int} (hu : σ.2 7 = u) {q : Int} (hq : σ.1 8 = q) (a : Int) (b : Int) (c : Int) (d : Int) (e : Int) (ha : zR a) (hb : zR b) (hc : zR c) (hd : zR d) (he : zR e) (h1 : 0 ≤ q) (h2 : q ≤ 700) : zC G yX3_append cX3_append 6 (some Jvm.ClassFile.FieldType.int) 1 22 0 0 [zp r, zi a, zi b, zi c, zi d, zi e] h (zPi (fun x h' => x = (if 680 < q then -1 else q + 20) ∧ ∃ τ : zS, τ.1 0 = 0 ∧ zCo (if 680 < q then σ else zuS (zuA σ 7 (gf4 (gf4 (gf4 (gf4 (gf4 u q a 4) (q + 4) b 4) (q + 8) c 4) (q + 12) d 4) (q + 16) e 4)) 8 (q + 20)) τ ∧ zRf r ad τ h0 h') zNo) := by
  refine zC.of zpn_X3 (Nat.le_of_ble_eq_true rfl) (L := [(0, zp r), (1, zi a), (2, zi b), (3, zi c), (4, zi d), (5, zi e)]) rfl (fun K hO => ?_)
  refine zr_aload_n hO (hl := rfl) (j := 0) (hi := rfl) dX3_append_0 ?_
  refine zr_iconst hO dX3_append_1 ?_
  refine zs_put hO hI hf 0 dX3_append_2 q2970 (Nat.le_of_ble_eq_true rfl) rfl rfl rfl ⟨by omega, by omega⟩ (fun h hf => ?_)
  refine zr_aload_n hO (hl := rfl) (j := 0) (hi := rfl) dX3_append_5 ?_
  refine zs_get hO hf 8 (x := q) dX3_append_6 q2978 (Nat.le_of_ble_eq_true rfl) (congrArg (fun z => some (zi z)) hq) (fun ⟨r1a, r1b⟩ => ?_)
  refine zr_sipush hO (by decide) dX3_append_9 ?_
  refine zr_icmp_le hO ⟨by omega, by omega⟩ ⟨by omega, by omega⟩ (tgt := 17) dX3_append_12 rfl (fun c12 => ?_) (fun c12 => ?_)
  · skip
    refine zr_aload_n hO (hl := rfl) (j := 0) (hi := rfl) dX3_append_17 ?_
    refine zr_iload_n hO (hl := rfl) (j := 1) (hi := rfl) dX3_append_18 ?_
    refine zr_cVv hO zc_X3 zw_X3_88 (c_X3_four hI hf hu hq a (ha) (by omega) (by omega)) dX3_append_19 (zrd_of hf.1) rfl (rest := []) rfl ⟨Nat.le_of_ble_eq_true rfl, Nat.le_of_ble_eq_true rfl⟩ (Nat.le_of_ble_eq_true rfl) (Nat.le_refl _) (Nat.le_refl _) (fun h hx => ?_)
    have hf : zRf r ad (zuS (zuA (zuS σ 0 0) 7 (gf4 u q a 4)) 8 (q + 4)) h0 h := hx
    clear hx
    refine zr_aload_n hO (hl := rfl) (j := 0) (hi := rfl) dX3_append_22 ?_
    refine zr_iload_n hO (hl := rfl) (j := 2) (hi := rfl) dX3_append_23 ?_
    refine zr_cVv hO zc_X3 zw_X3_88 (c_X3_four hI hf ((zuS_2 (zuA (zuS σ 0 0) 7 (gf4 u q a 4)) 8 (q + 4) 7).trans (zuA_at (zuS σ 0 0) 7 (gf4 u q a 4))) (zuS_at (zuA (zuS σ 0 0) 7 (gf4 u q a 4)) 8 (q + 4)) b (hb) (by omega) (by omega)) dX3_append_24 (zrd_of hf.1) rfl (rest := []) rfl ⟨Nat.le_of_ble_eq_true rfl, Nat.le_of_ble_eq_true rfl⟩ (Nat.le_of_ble_eq_true rfl) (Nat.le_refl _) (Nat.le_refl _) (fun h hx => ?_)
    have hf : zRf r ad (zuS (zuA (zuS (zuA (zuS σ 0 0) 7 (gf4 u q a 4)) 8 (q + 4)) 7 (gf4 (gf4 u q a 4) (q + 4) b 4)) 8 ((q + 4) + 4)) h0 h := hx
    clear hx
    refine zr_aload_n hO (hl := rfl) (j := 0) (hi := rfl) dX3_append_27 ?_
    refine zr_iload_n hO (hl := rfl) (j := 3) (hi := rfl) dX3_append_28 ?_
    refine zr_cVv hO zc_X3 zw_X3_88 (c_X3_four hI hf ((zuS_2 (zuA (zuS (zuA (zuS σ 0 0) 7 (gf4 u q a 4)) 8 (q + 4)) 7 (gf4 (gf4 u q a 4) (q + 4) b 4)) 8 ((q + 4) + 4) 7).trans (zuA_at (zuS (zuA (zuS σ 0 0) 7 (gf4 u q a 4)) 8 (q + 4)) 7 (gf4 (gf4 u q a 4) (q + 4) b 4))) (zuS_at (zuA (zuS (zuA (zuS σ 0 0) 7 (gf4 u q a 4)) 8 (q + 4)) 7 (gf4 (gf4 u q a 4) (q + 4) b 4)) 8 ((q + 4) + 4)) c (hc) (by omega) (by omega)) dX3_append_29 (zrd_of hf.1) rfl (rest := []) rfl ⟨Nat.le_of_ble_eq_true rfl, Nat.le_of_ble_eq_true rfl⟩ (Nat.le_of_ble_eq_true rfl) (Nat.le_refl _) (Nat.le_refl _) (fun h hx => ?_)
    have hf : zRf r ad (zuS (zuA (zuS (zuA (zuS (zuA (zuS σ 0 0) 7 (gf4 u q a 4)) 8 (q + 4)) 7 (gf4 (gf4 u q a 4) (q + 4) b 4)) 8 ((q + 4) + 4)) 7 (gf4 (gf4 (gf4 u q a 4) (q + 4) b 4) ((q + 4) + 4) c 4)) 8 (((q + 4) + 4) + 4)) h0 h := hx
    clear hx
    refine zr_aload_n hO (hl := rfl) (j := 0) (hi := rfl) dX3_append_32 ?_
    refine zr_iload hO (hl := rfl) (j := 4) dX3_append_33 ?_
    refine zr_cVv hO zc_X3 zw_X3_88 (c_X3_four hI hf ((zuS_2 (zuA (zuS (zuA (zuS (zuA (zuS σ 0 0) 7 (gf4 u q a 4)) 8 (q + 4)) 7 (gf4 (gf4 u q a 4) (q + 4) b 4)) 8 ((q + 4) + 4)) 7 (gf4 (gf4 (gf4 u q a 4) (q + 4) b 4) ((q + 4) + 4) c 4)) 8 (((q + 4) + 4) + 4) 7).trans (zuA_at (zuS (zuA (zuS (zuA (zuS σ 0 0) 7 (gf4 u q a 4)) 8 (q + 4)) 7 (gf4 (gf4 u q a 4) (q + 4) b 4)) 8 ((q + 4) + 4)) 7 (gf4 (gf4 (gf4 u q a 4) (q + 4) b 4) ((q + 4) + 4) c 4))) (zuS_at (zuA (zuS (zuA (zuS (zuA (zuS σ 0 0) 7 (gf4 u q a 4)) 8 (q + 4)) 7 (gf4 (gf4 u q a 4) (q + 4) b 4)) 8 ((q + 4) + 4)) 7 (gf4 (gf4 (gf4 u q a 4) (q + 4) b 4) ((q + 4) + 4) c 4)) 8 (((q + 4) + 4) + 4)) d (hd) (by omega) (by omega)) dX3_append_35 (zrd_of hf.1) rfl (rest := []) rfl ⟨Nat.le_of_ble_eq_true rfl, Nat.le_of_ble_eq_true rfl⟩ (Nat.le_of_ble_eq_true rfl) (Nat.le_refl _) (Nat.le_refl _) (fun h hx => ?_)
    have hf : zRf r ad (zuS (zuA (zuS (zuA (zuS (zuA (zuS (zuA (zuS σ 0 0) 7 (gf4 u q a 4)) 8 (q + 4)) 7 (gf4 (gf4 u q a 4) (q + 4) b 4)) 8 ((q + 4) + 4)) 7 (gf4 (gf4 (gf4 u q a 4) (q + 4) b 4) ((q + 4) + 4) c 4)) 8 (((q + 4) + 4) + 4)) 7 (gf4 (gf4 (gf4 (gf4 u q a 4) (q + 4) b 4) ((q + 4) + 4) c 4) (((q + 4) + 4) + 4) d 4)) 8 ((((q + 4) + 4) + 4) + 4)) h0 h := hx
    clear hx
    refine zr_aload_n hO (hl := rfl) (j := 0) (hi := rfl) dX3_append_38 ?_
    refine zr_iload hO (hl := rfl) (j := 5) dX3_append_39 ?_
    refine zr_cVv hO zc_X3 zw_X3_88 (c_X3_four hI hf ((zuS_2 (zuA (zuS (zuA (zuS (zuA (zuS (zuA (zuS σ 0 0) 7 (gf4 u q a 4)) 8 (q + 4)) 7 (gf4 (gf4 u q a 4) (q + 4) b 4)) 8 ((q + 4) + 4)) 7 (gf4 (gf4 (gf4 u q a 4) (q + 4) b 4) ((q + 4) + 4) c 4)) 8 (((q + 4) + 4) + 4)) 7 (gf4 (gf4 (gf4 (gf4 u q a 4) (q + 4) b 4) ((q + 4) + 4) c 4) (((q + 4) + 4) + 4) d 4)) 8 ((((q + 4) + 4) + 4) + 4) 7).trans (zuA_at (zuS (zuA (zuS (zuA (zuS (zuA (zuS σ 0 0) 7 (gf4 u q a 4)) 8 (q + 4)) 7 (gf4 (gf4 u q a 4) (q + 4) b 4)) 8 ((q + 4) + 4)) 7 (gf4 (gf4 (gf4 u q a 4) (q + 4) b 4) ((q + 4) + 4) c 4)) 8 (((q + 4) + 4) + 4)) 7 (gf4 (gf4 (gf4 (gf4 u q a 4) (q + 4) b 4) ((q + 4) + 4) c 4) (((q + 4) + 4) + 4) d 4))) (zuS_at (zuA (zuS (zuA (zuS (zuA (zuS (zuA (zuS σ 0 0) 7 (gf4 u q a 4)) 8 (q + 4)) 7 (gf4 (gf4 u q a 4) (q + 4) b 4)) 8 ((q + 4) + 4)) 7 (gf4 (gf4 (gf4 u q a 4) (q + 4) b 4) ((q + 4) + 4) c 4)) 8 (((q + 4) + 4) + 4)) 7 (gf4 (gf4 (gf4 (gf4 u q a 4) (q + 4) b 4) ((q + 4) + 4) c 4) (((q + 4) + 4) + 4) d 4)) 8 ((((q + 4) + 4) + 4) + 4)) e (he) (by omega) (by omega)) dX3_append_41 (zrd_of hf.1) rfl (rest := []) rfl ⟨Nat.le_of_ble_eq_true rfl, Nat.le_of_ble_eq_true rfl⟩ (Nat.le_of_ble_eq_true rfl) (Nat.le_refl _) (Nat.le_refl _) (fun h hx => ?_)
    have hf : zRf r ad (zuS (zuA (zuS (zuA (zuS (zuA (zuS (zuA (zuS (zuA (zuS σ 0 0) 7 (gf4 u q a 4)) 8 (q + 4)) 7 (gf4 (gf4 u q a 4) (q + 4) b 4)) 8 ((q + 4) + 4)) 7 (gf4 (gf4 (gf4 u q a 4) (q + 4) b 4) ((q + 4) + 4) c 4)) 8 (((q + 4) + 4) + 4)) 7 (gf4 (gf4 (gf4 (gf4 u q a 4) (q + 4) b 4) ((q + 4) + 4) c 4) (((q + 4) + 4) + 4) d 4)) 8 ((((q + 4) + 4) + 4) + 4)) 7 (gf4 (gf4 (gf4 (gf4 (gf4 u q a 4) (q + 4) b 4) ((q + 4) + 4) c 4) (((q + 4) + 4) + 4) d 4) ((((q + 4) + 4) + 4) + 4) e 4)) 8 (((((q + 4) + 4) + 4) + 4) + 4)) h0 h := hx
    clear hx
    refine zr_aload_n hO (hl := rfl) (j := 0) (hi := rfl) dX3_append_44 ?_
    refine zs_get hO hf 8 (x := ((((q + 4) + 4) + 4) + 4) + 4) dX3_append_45 q2978 (Nat.le_of_ble_eq_true rfl) rfl (fun ⟨r2a, r2b⟩ => ?_)
    exact zr_ireturn hO dX3_append_48 ⟨(by rw [if_neg (by omega)]; omega), (zuS (zuA (zuS (zuA (zuS (zuA (zuS (zuA (zuS (zuA (zuS σ 0 0) 7 (gf4 u q a 4)) 8 (q + 4)) 7 (gf4 (gf4 u q a 4) (q + 4) b 4)) 8 ((q + 4) + 4)) 7 (gf4 (gf4 (gf4 u q a 4) (q + 4) b 4) ((q + 4) + 4) c 4)) 8 (((q + 4) + 4) + 4)) 7 (gf4 (gf4 (gf4 (gf4 u q a 4) (q + 4) b 4) ((q + 4) + 4) c 4) (((q + 4) + 4) + 4) d 4)) 8 ((((q + 4) + 4) + 4) + 4)) 7 (gf4 (gf4 (gf4 (gf4 (gf4 u q a 4) (q + 4) b 4) ((q + 4) + 4) c 4) (((q + 4) + 4) + 4) d 4) ((((q + 4) + 4) + 4) + 4) e 4)) 8 (((((q + 4) + 4) + 4) + 4) + 4)), (rfl), (by rw [if_neg (by omega), show q + 8 = q + 4 + 4 by omega, show q + 12 = q + 4 + 4 + 4 by omega, show q + 16 = q + 4 + 4 + 4 + 4 by omega, show q + 20 = q + 4 + 4 + 4 + 4 + 4 by omega]; have e9 := ((((((((((((zCo.refl σ).uS (k := 0) (by decide) 0).cA 7 (gf4 u q a 4)).cS 8 (q + 4)).cA 7 (gf4 (gf4 u q a 4) (q + 4) b 4)).cS 8 ((q + 4) + 4)).cA 7 (gf4 (gf4 (gf4 u q a 4) (q + 4) b 4) ((q + 4) + 4) c 4)).cS 8 (((q + 4) + 4) + 4)).cA 7 (gf4 (gf4 (gf4 (gf4 u q a 4) (q + 4) b 4) ((q + 4) + 4) c 4) (((q + 4) + 4) + 4) d 4)).cS 8 ((((q + 4) + 4) + 4) + 4)).cA 7 (gf4 (gf4 (gf4 (gf4 (gf4 u q a 4) (q + 4) b 4) ((q + 4) + 4) c 4) (((q + 4) + 4) + 4) d 4) ((((q + 4) + 4) + 4) + 4) e 4)).cS 8 (((((q + 4) + 4) + 4) + 4) + 4)); rw [zuSA_2, zuSA_2, zuSA_2, zuSA_2] at e9; exact e9), hf⟩
  · skip
    refine zr_iconst hO dX3_append_15 ?_
    exact zr_ireturn hO dX3_append_16 ⟨(by rw [if_pos c12]), (zuS σ 0 0), (rfl), (by rw [if_pos c12]; exact ((zCo.refl σ).uS (k := 0) (by decide) 0)), hf⟩
theorem zw_X3_107 : zYs RX3 107 yX3_isByte cX3_isByte 1 (some Jvm.ClassFile.FieldType.boolean) 1 := ⟨q3105, q3106, q116, q3107, ⟨by decide +kernel, by decide +kernel, by decide +kernel⟩⟩
theorem zw_X3_103 : zYw RX3 RX3 103 yX3_faults cX3_faults 3 none 2 := ⟨q3101, q3103, qs48, q116, q3104, rfl, ⟨by decide +kernel, by decide +kernel, by decide +kernel⟩⟩
theorem zw_X3_99 : zYw RX3 RX3 99 yX3_comes cX3_comes 2 (some Jvm.ClassFile.FieldType.int) 0 := ⟨q3097, q3099, qs47, q116, q3100, rfl, ⟨by decide +kernel, by decide +kernel, by decide +kernel⟩⟩
theorem c_X3_reads {G : zG} {r : Nat} {ad : Nat → Nat} {h0 : zHp} (hI : zRI r ad) {σ : zS} {h : zHp} (hf : zRf r ad σ h0 h) {g : Nat → Int} (hg : σ.2 1 = g) {b : Nat → Int} (hb : σ.2 7 = b) {k9 : Int} (hk9 : σ.1 9 = k9) {k10 : Int} (hk10 : σ.1 10 = k10) (m : Int) (hm : zR m) (hm1 : 0 ≤ m) (hm2 : m ≤ 700) (hwg : zwf g) (hg0 : g 0 = 0) (hg1 : g 1 = 0) (hz9 : k9 = 0) (hz10 : k10 = -1) : zC G yX3_reads cX3_reads 5 none 2 42 0 0 [zp r, zi m] h (zPv (fun h' => zRf r ad (zuS (zuS (zuA σ 1 (grdz b g m)) 9 (grd b (grd0 g m) m.toNat).2.1) 10 (grd b (grd0 g m) m.toNat).2.2) h0 h') zNo) := by
  refine zC.of zpn_X3 (Nat.le_of_ble_eq_true rfl) (L := [(0, zp r), (1, zi m)]) rfl (fun K hO => ?_)
  obtain ⟨hma, hmb⟩ := hm
  have hj12 : ∀ (G9 : Nat → Int) (o : Int) (hG9 : (if 0 < m then gcm g else g) = G9) (ho : 0 < m → o = 35 + 27 * (G9 0 - 1)) (hGw : zrdI m (G9, 0, -1)) (h : zHp) (hf : zRf r ad (zuA σ 1 G9) h0 h), zV G K 0 0 h 12 [(0, zp r), (1, zi m)] [zi o] := by
    intro G9 o hG9 ho hGw h hf
    refine zr_istore_n hO (L' := [(2, zi o), (0, zp r), (1, zi m)]) (hi := rfl) dX3_reads_12 (Nat.le_of_ble_eq_true rfl) rfl ?_
    refine zr_iconst hO dX3_reads_13 ?_
    refine zr_istore_n hO (L' := [(3, zi 0), (2, zi o), (0, zp r), (1, zi m)]) (hi := rfl) dX3_reads_14 (Nat.le_of_ble_eq_true rfl) rfl ?_
    have hl15 : ∀ (n9 : Nat) (ρ : zS) (G' : Nat → Int) (c a o j : Int), (m - j).toNat = n9 → ∀ (i1 : 0 ≤ j) (i2 : j ≤ m) (hJ : zrdI m (G', c, a)) (i3 : grd b (grd0 g m) j.toNat = (G', c, a)) (io : 0 < m → o = 35 + 27 * (G' 0 - 1)) (hA : ∀ k, k ≠ 1 → ρ.2 k = σ.2 k) (hB : ∀ k, k ≠ 9 → k ≠ 10 → ρ.1 k = σ.1 k) (hG : ρ.2 1 = G') (hc9 : ρ.1 9 = c) (ha9 : ρ.1 10 = a) (h : zHp) (hf : zRf r ad ρ h0 h), zV G K 0 0 h 15 [(0, zp r), (1, zi m), (2, zi o), (3, zi j)] [] := by
      intro n9
      induction n9 using Nat.strongRecOn with
      | _ n9 ih15 =>
      intro ρ G' c a o j hn15 i1 i2 hJ i3 io hA hB hG hc9 ha9 h hf
      obtain ⟨zi1, zi2, zi3, zi4, zi5⟩ := id hJ
      have zi2 : G' 1 = G' 0 := zi2
      have zi4 : 0 ≤ c := zi4
      have zi5 : c ≤ 3 := zi5
      refine zr_iload_n hO (hl := rfl) (j := 3) (hi := rfl) dX3_reads_15 ?_
      refine zr_iload_n hO (hl := rfl) (j := 1) (hi := rfl) dX3_reads_16 ?_
      refine zr_icmp_ge hO ⟨by omega, by omega⟩ ⟨by omega, by omega⟩ (tgt := 146) dX3_reads_17 rfl (fun c17 => ?_) (fun c17 => ?_)
      · skip
        have i9 : grd b (grd0 g m) m.toNat = (G', c, a) := by first | (rw [show m.toNat = j.toNat by omega]; exact i3) | exact grd_stop i3 (by show c ≠ 0; omega) (by omega)
        refine zr_aload_n hO (hl := rfl) (j := 0) (hi := rfl) dX3_reads_146 ?_
        refine zs_arr hO hf 1 dX3_reads_147 q2971 (Nat.le_of_ble_eq_true rfl) rfl ?_
        refine zr_iconst hO dX3_reads_150 ?_
        refine zr_aload_n hO (hl := rfl) (j := 0) (hi := rfl) dX3_reads_151 ?_
        refine zs_arr hO hf 1 dX3_reads_152 q2971 (Nat.le_of_ble_eq_true rfl) rfl ?_
        refine zr_iconst hO dX3_reads_155 ?_
        refine zs_ild hO hf 1 (f := G') (n := 2195) (j := 0) dX3_reads_156 rfl rfl rfl hG (by omega) (by omega) rfl (fun ⟨r1a, r1b⟩ => ?_)
        refine zr_if_le hO ⟨by omega, by omega⟩ (tgt := 164) dX3_reads_157 rfl (fun c157 => ?_) (fun c157 => ?_)
        · skip
          refine zr_iconst hO dX3_reads_164 ?_
          refine zs_ist hO hI hf 1 (f := G') (n := 2195) (j := 2) dX3_reads_165 rfl rfl rfl hG (by omega) (by omega) rfl ⟨by omega, by omega⟩ (fun h hf => ?_)
          exact zr_return hO dX3_reads_166 (zRf_eq (by unfold grdz; rw [i9, if_neg (by show ¬ 0 < G' 0; omega), rdz_eq hA hB hG hc9 ha9]) hf)
        · skip
          refine zr_iconst hO dX3_reads_160 ?_
          refine zr_goto hO (tgt := 165) dX3_reads_161 rfl ?_
          refine zs_ist hO hI hf 1 (f := G') (n := 2195) (j := 2) dX3_reads_165 rfl rfl rfl hG (by omega) (by omega) rfl ⟨by omega, by omega⟩ (fun h hf => ?_)
          exact zr_return hO dX3_reads_166 (zRf_eq (by unfold grdz; rw [i9, if_pos (by show 0 < G' 0; omega), rdz_eq hA hB hG hc9 ha9]) hf)
      · skip
        refine zr_aload_n hO (hl := rfl) (j := 0) (hi := rfl) dX3_reads_20 ?_
        refine zs_get hO hf 9 (x := c) dX3_reads_21 q2979 (Nat.le_of_ble_eq_true rfl) (congrArg (fun z => some (zi z)) hc9) (fun ⟨r2a, r2b⟩ => ?_)
        refine zr_if_ne hO ⟨by omega, by omega⟩ (tgt := 146) dX3_reads_24 rfl (fun c24 => ?_) (fun c24 => ?_)
        · skip
          have i9 : grd b (grd0 g m) m.toNat = (G', c, a) := by first | (rw [show m.toNat = j.toNat by omega]; exact i3) | exact grd_stop i3 (by show c ≠ 0; omega) (by omega)
          refine zr_aload_n hO (hl := rfl) (j := 0) (hi := rfl) dX3_reads_146 ?_
          refine zs_arr hO hf 1 dX3_reads_147 q2971 (Nat.le_of_ble_eq_true rfl) rfl ?_
          refine zr_iconst hO dX3_reads_150 ?_
          refine zr_aload_n hO (hl := rfl) (j := 0) (hi := rfl) dX3_reads_151 ?_
          refine zs_arr hO hf 1 dX3_reads_152 q2971 (Nat.le_of_ble_eq_true rfl) rfl ?_
          refine zr_iconst hO dX3_reads_155 ?_
          refine zs_ild hO hf 1 (f := G') (n := 2195) (j := 0) dX3_reads_156 rfl rfl rfl hG (by omega) (by omega) rfl (fun ⟨r3a, r3b⟩ => ?_)
          refine zr_if_le hO ⟨by omega, by omega⟩ (tgt := 164) dX3_reads_157 rfl (fun c157 => ?_) (fun c157 => ?_)
          · skip
            refine zr_iconst hO dX3_reads_164 ?_
            refine zs_ist hO hI hf 1 (f := G') (n := 2195) (j := 2) dX3_reads_165 rfl rfl rfl hG (by omega) (by omega) rfl ⟨by omega, by omega⟩ (fun h hf => ?_)
            exact zr_return hO dX3_reads_166 (zRf_eq (by unfold grdz; rw [i9, if_neg (by show ¬ 0 < G' 0; omega), rdz_eq hA hB hG hc9 ha9]) hf)
          · skip
            refine zr_iconst hO dX3_reads_160 ?_
            refine zr_goto hO (tgt := 165) dX3_reads_161 rfl ?_
            refine zs_ist hO hI hf 1 (f := G') (n := 2195) (j := 2) dX3_reads_165 rfl rfl rfl hG (by omega) (by omega) rfl ⟨by omega, by omega⟩ (fun h hf => ?_)
            exact zr_return hO dX3_reads_166 (zRf_eq (by unfold grdz; rw [i9, if_pos (by show 0 < G' 0; omega), rdz_eq hA hB hG hc9 ha9]) hf)
        · skip
          have hg9 : 1 ≤ G' 0 := zi3 (by omega)
          have zw : zwf G' := zi1
          obtain ⟨zw1, zw2, zw3⟩ := id zw
          have hl9 := zw3 (G' 0) hg9 (Int.le_refl _)
          have ho9 := io (by omega)
          refine zr_aload_n hO (hl := rfl) (j := 0) (hi := rfl) dX3_reads_27 ?_
          refine zs_arr hO hf 7 dX3_reads_28 q2977 (Nat.le_of_ble_eq_true rfl) rfl ?_
          refine zr_iload_n hO (hl := rfl) (j := 3) (hi := rfl) dX3_reads_31 ?_
          refine zs_bld hO hf 7 (f := b) (n := 700) (j := j.toNat) dX3_reads_32 rfl rfl rfl ((hA 7 (by decide)).trans hb) (by omega) (by omega) rfl (fun ⟨r4a, r4b⟩ => ?_)
          refine zr_istore hO (L' := [(4, zi (b j.toNat)), (0, zp r), (1, zi m), (2, zi o), (3, zi j)]) dX3_reads_33 (Nat.le_of_ble_eq_true rfl) rfl ?_
          refine zr_iload hO (hl := rfl) (j := 0) dX3_reads_35 ?_
          refine zr_bipush hO (by decide) dX3_reads_37 ?_
          refine zr_icmp_ne hO ⟨by omega, by omega⟩ ⟨by omega, by omega⟩ (tgt := 70) dX3_reads_39 rfl (fun c39 => ?_) (fun c39 => ?_)
          · skip
            refine zr_iload hO (hl := rfl) (j := 0) dX3_reads_70 ?_
            refine zr_cSi hO zw_X3_107 (c_X3_isByte (b j.toNat) (⟨by omega, by omega⟩)) dX3_reads_72 rfl (rest := []) rfl ⟨Nat.le_of_ble_eq_true rfl, Nat.le_of_ble_eq_true rfl⟩ (Nat.le_of_ble_eq_true rfl) (Nat.le_refl _) (Nat.le_refl _) (fun x h hx => ?_)
            obtain ⟨hx, rfl⟩ := hx
            have hx : x = zB ((32 ≤ (b j.toNat) ∧ (b j.toNat) ≤ 126) ∧ (b j.toNat) ≠ 124) := hx
            subst hx
            refine zr_if_ne hO (zR_B _) (tgt := 87) dX3_reads_75 rfl (fun c75 => ?_) (fun c75 => ?_)
            · skip
              have c75 := zB_ne c75
              refine zr_aload_n hO (hl := rfl) (j := 1) (hi := rfl) dX3_reads_87 ?_
              refine zs_arr hO hf 1 dX3_reads_88 q2971 (Nat.le_of_ble_eq_true rfl) rfl ?_
              refine zr_iload_n hO (hl := rfl) (j := 3) (hi := rfl) dX3_reads_91 ?_
              refine zr_iconst hO dX3_reads_92 ?_
              refine zr_iadd hO dX3_reads_93 ?_
              refine zs_ild hO hf 1 (f := G') (n := 2195) (j := (o + 2).toNat) dX3_reads_94 rfl rfl rfl hG (by omega) (by omega) rfl (fun ⟨r5a, r5b⟩ => ?_)
              rw [show (G' ((o + 2).toNat)) = gln G' (G' 0) from (gl_at ho9)]
              refine zr_bipush hO (by decide) dX3_reads_95 ?_
              refine zr_icmp_ne hO ⟨by omega, by omega⟩ ⟨by omega, by omega⟩ (tgt := 109) dX3_reads_97 rfl (fun c97 => ?_) (fun c97 => ?_)
              · skip
                refine zr_aload_n hO (hl := rfl) (j := 1) (hi := rfl) dX3_reads_109 ?_
                refine zs_arr hO hf 1 dX3_reads_110 q2971 (Nat.le_of_ble_eq_true rfl) rfl ?_
                refine zr_iload_n hO (hl := rfl) (j := 3) (hi := rfl) dX3_reads_113 ?_
                refine zr_iconst hO dX3_reads_114 ?_
                refine zr_iadd hO dX3_reads_115 ?_
                refine zr_aload_n hO (hl := rfl) (j := 1) (hi := rfl) dX3_reads_116 ?_
                refine zs_arr hO hf 1 dX3_reads_117 q2971 (Nat.le_of_ble_eq_true rfl) rfl ?_
                refine zr_iload_n hO (hl := rfl) (j := 3) (hi := rfl) dX3_reads_120 ?_
                refine zr_iconst hO dX3_reads_121 ?_
                refine zr_iadd hO dX3_reads_122 ?_
                refine zs_ild hO hf 1 (f := G') (n := 2195) (j := (o + 2).toNat) dX3_reads_123 rfl rfl rfl hG (by omega) (by omega) rfl (fun ⟨r6a, r6b⟩ => ?_)
                rw [show (G' ((o + 2).toNat)) = gln G' (G' 0) from (gl_at ho9)]
                refine zr_iadd hO dX3_reads_124 ?_
                refine zr_iload hO (hl := rfl) (j := 0) dX3_reads_125 ?_
                refine zs_ist hO hI hf 1 (f := G') (n := 2195) (j := (35 + 27 * (G' 0 - 1) + 3 + gln G' (G' 0)).toNat) dX3_reads_127 rfl rfl rfl hG (by omega) (by omega) (by omega) ⟨by omega, by omega⟩ (fun h hf => ?_)
                refine zr_aload_n hO (hl := rfl) (j := 1) (hi := rfl) dX3_reads_128 ?_
                refine zs_arr hO hf 1 dX3_reads_129 q2971 (Nat.le_of_ble_eq_true rfl) rfl ?_
                refine zr_iload_n hO (hl := rfl) (j := 3) (hi := rfl) dX3_reads_132 ?_
                refine zr_iconst hO dX3_reads_133 ?_
                refine zr_iadd hO dX3_reads_134 ?_
                refine zr_dup2 hO rfl rfl dX3_reads_135 ?_
                refine zs_ild hO hf 1 (f := zset G' ((35 + 27 * (G' 0 - 1) + 3 + gln G' (G' 0)).toNat) (b j.toNat)) (n := 2195) (j := (o + 2).toNat) dX3_reads_136 rfl rfl rfl rfl (by omega) (by omega) rfl (fun ⟨r7a, r7b⟩ => ?_)
                rw [show ((zset G' ((35 + 27 * (G' 0 - 1) + 3 + gln G' (G' 0)).toNat) (b j.toNat)) ((o + 2).toNat)) = gln G' (G' 0) from (by rw [zset_n (by omega)]; exact gl_at ho9)]
                refine zr_iconst hO dX3_reads_137 ?_
                refine zr_iadd hO dX3_reads_138 ?_
                refine zs_ist hO hI hf 1 (f := zset G' ((35 + 27 * (G' 0 - 1) + 3 + gln G' (G' 0)).toNat) (b j.toNat)) (n := 2195) (j := (35 + 27 * (G' 0 - 1) + 2).toNat) dX3_reads_139 rfl rfl rfl rfl (by omega) (by omega) (by omega) ⟨by omega, by omega⟩ (fun h hf => ?_)
                refine zr_iinc hO (L' := [(3, zi (j + 1)), (4, zi (b j.toNat)), (0, zp r), (1, zi m), (2, zi o)]) (j := 4) dX3_reads_140 rfl (Nat.le_of_ble_eq_true rfl) rfl ?_
                refine zr_goto hO (tgt := 15) dX3_reads_143 rfl ?_
                refine zV.loc [2, 3, 4, 0] rfl ?_
                exact ih15 _ (by omega) (zuA (zuA ρ 1 (zset G' ((35 + 27 * (G' 0 - 1) + 3 + gln G' (G' 0)).toNat) (b j.toNat))) 1 (zset (zset G' ((35 + 27 * (G' 0 - 1) + 3 + gln G' (G' 0)).toNat) (b j.toNat)) ((35 + 27 * (G' 0 - 1) + 2).toNat) ((gln G' (G' 0)) + 1))) (gcc G' (b j.toNat)) c a o (j + 1) rfl (by omega) (by omega) (by have q := grdF_I (b := b) (j := j.toNat) (by omega) hJ; rw [(grdF_e (b := b) (j := j.toNat) (G := G') (c := c) (a := a) (by omega) (by omega) (by omega) (by omega))] at q; exact q) (by rw [show (j + 1).toNat = j.toNat + 1 by omega, grd, i3, (grdF_e (b := b) (j := j.toNat) (G := G') (c := c) (a := a) (by omega) (by omega) (by omega) (by omega))]) (fun q => by rw [gcc_lo _ _ hg9 hl9.1 (by omega)]; exact io q) (fun k q => by first | exact hA k q | (simp only [zuA, zuS]; rw [zset_n q]; first | exact hA k q | (rw [zset_n q]; exact hA k q))) (fun k q q2 => by first | exact hB k q q2 | (simp only [zuA, zuS]; rw [zset_n q2, zset_n q]; exact hB k q q2)) (zuA_at _ 1 _) (hc9) (ha9) h hf
              · skip
                refine zr_aload_n hO (hl := rfl) (j := 1) (hi := rfl) dX3_reads_100 ?_
                refine zr_iconst hO dX3_reads_101 ?_
                refine zr_iload_n hO (hl := rfl) (j := 4) (hi := rfl) dX3_reads_102 ?_
                refine zr_cVv hO zc_X3 zw_X3_103 (c_X3_faults hI hf 2 j (⟨by omega, by omega⟩) (⟨by omega, by omega⟩)) dX3_reads_103 (zrd_of hf.1) rfl (rest := []) rfl ⟨Nat.le_of_ble_eq_true rfl, Nat.le_of_ble_eq_true rfl⟩ (Nat.le_of_ble_eq_true rfl) (Nat.le_refl _) (Nat.le_refl _) (fun h hx => ?_)
                have hf : zRf r ad (zuS (zuS ρ 9 2) 10 j) h0 h := hx
                clear hx
                refine zr_goto hO (tgt := 140) dX3_reads_106 rfl ?_
                refine zr_iinc hO (L' := [(3, zi (j + 1)), (4, zi (b j.toNat)), (0, zp r), (1, zi m), (2, zi o)]) (j := 4) dX3_reads_140 rfl (Nat.le_of_ble_eq_true rfl) rfl ?_
                refine zr_goto hO (tgt := 15) dX3_reads_143 rfl ?_
                refine zV.loc [2, 3, 4, 0] rfl ?_
                exact ih15 _ (by omega) (zuS (zuS ρ 9 2) 10 j) G' 2 j o (j + 1) rfl (by omega) (by omega) (by have q := grdF_I (b := b) (j := j.toNat) (by omega) hJ; rw [(grdF_d (b := b) (j := j.toNat) (G := G') (c := c) (a := a) (by omega) (by omega) (by omega) (by omega)), Int.toNat_of_nonneg i1] at q; exact q) (by rw [show (j + 1).toNat = j.toNat + 1 by omega, grd, i3, (grdF_d (b := b) (j := j.toNat) (G := G') (c := c) (a := a) (by omega) (by omega) (by omega) (by omega)), Int.toNat_of_nonneg i1]) (io) (fun k q => by first | exact hA k q | (simp only [zuA, zuS]; rw [zset_n q]; first | exact hA k q | (rw [zset_n q]; exact hA k q))) (fun k q q2 => by first | exact hB k q q2 | (simp only [zuA, zuS]; rw [zset_n q2, zset_n q]; exact hB k q q2)) (hG) (rfl) (rfl) h hf
            · skip
              have c75 := zB_eq c75
              refine zr_aload_n hO (hl := rfl) (j := 1) (hi := rfl) dX3_reads_78 ?_
              refine zr_iconst hO dX3_reads_79 ?_
              refine zr_iload_n hO (hl := rfl) (j := 4) (hi := rfl) dX3_reads_80 ?_
              refine zr_cVv hO zc_X3 zw_X3_103 (c_X3_faults hI hf 1 j (⟨by omega, by omega⟩) (⟨by omega, by omega⟩)) dX3_reads_81 (zrd_of hf.1) rfl (rest := []) rfl ⟨Nat.le_of_ble_eq_true rfl, Nat.le_of_ble_eq_true rfl⟩ (Nat.le_of_ble_eq_true rfl) (Nat.le_refl _) (Nat.le_refl _) (fun h hx => ?_)
              have hf : zRf r ad (zuS (zuS ρ 9 1) 10 j) h0 h := hx
              clear hx
              refine zr_goto hO (tgt := 140) dX3_reads_84 rfl ?_
              refine zr_iinc hO (L' := [(3, zi (j + 1)), (4, zi (b j.toNat)), (0, zp r), (1, zi m), (2, zi o)]) (j := 4) dX3_reads_140 rfl (Nat.le_of_ble_eq_true rfl) rfl ?_
              refine zr_goto hO (tgt := 15) dX3_reads_143 rfl ?_
              refine zV.loc [2, 3, 4, 0] rfl ?_
              exact ih15 _ (by omega) (zuS (zuS ρ 9 1) 10 j) G' 1 j o (j + 1) rfl (by omega) (by omega) (by have q := grdF_I (b := b) (j := j.toNat) (by omega) hJ; rw [(grdF_c (b := b) (j := j.toNat) (G := G') (c := c) (a := a) (by omega) (by omega) (by omega)), Int.toNat_of_nonneg i1] at q; exact q) (by rw [show (j + 1).toNat = j.toNat + 1 by omega, grd, i3, (grdF_c (b := b) (j := j.toNat) (G := G') (c := c) (a := a) (by omega) (by omega) (by omega)), Int.toNat_of_nonneg i1]) (io) (fun k q => by first | exact hA k q | (simp only [zuA, zuS]; rw [zset_n q]; first | exact hA k q | (rw [zset_n q]; exact hA k q))) (fun k q q2 => by first | exact hB k q q2 | (simp only [zuA, zuS]; rw [zset_n q2, zset_n q]; exact hB k q q2)) (hG) (rfl) (rfl) h hf
          · skip
            refine zr_aload_n hO (hl := rfl) (j := 1) (hi := rfl) dX3_reads_42 ?_
            refine zs_arr hO hf 1 dX3_reads_43 q2971 (Nat.le_of_ble_eq_true rfl) rfl ?_
            refine zr_iconst hO dX3_reads_46 ?_
            refine zs_ild hO hf 1 (f := G') (n := 2195) (j := 0) dX3_reads_47 rfl rfl rfl hG (by omega) (by omega) rfl (fun ⟨r8a, r8b⟩ => ?_)
            refine zr_bipush hO (by decide) dX3_reads_48 ?_
            refine zr_icmp_ne hO ⟨by omega, by omega⟩ ⟨by omega, by omega⟩ (tgt := 62) dX3_reads_50 rfl (fun c50 => ?_) (fun c50 => ?_)
            · skip
              refine zr_aload_n hO (hl := rfl) (j := 1) (hi := rfl) dX3_reads_62 ?_
              refine zr_cVi hO zc_X3 zw_X3_99 (c_X3_comes hI hf hG  (by omega) (by omega) (by omega) (by omega)) dX3_reads_63 (zrd_of hf.1) rfl (rest := []) rfl ⟨Nat.le_of_ble_eq_true rfl, Nat.le_of_ble_eq_true rfl⟩ (Nat.le_of_ble_eq_true rfl) (Nat.le_refl _) (Nat.le_refl _) (fun x h hx => ?_)
              obtain ⟨hx, hf⟩ := hx
              have hx : x = 35 + 27 * G' 0 := hx
              subst hx
              have hf : zRf r ad (zuA ρ 1 (gcm G')) h0 h := hf
              refine zr_istore_n hO (L' := [(2, zi (35 + 27 * G' 0)), (4, zi (b j.toNat)), (0, zp r), (1, zi m), (3, zi j)]) (hi := rfl) dX3_reads_66 (Nat.le_of_ble_eq_true rfl) rfl ?_
              refine zr_goto hO (tgt := 140) dX3_reads_67 rfl ?_
              refine zr_iinc hO (L' := [(3, zi (j + 1)), (2, zi (35 + 27 * G' 0)), (4, zi (b j.toNat)), (0, zp r), (1, zi m)]) (j := 4) dX3_reads_140 rfl (Nat.le_of_ble_eq_true rfl) rfl ?_
              refine zr_goto hO (tgt := 15) dX3_reads_143 rfl ?_
              refine zV.loc [3, 4, 1, 0] rfl ?_
              exact ih15 _ (by omega) (zuA ρ 1 (gcm G')) (gcm G') c a (35 + 27 * G' 0) (j + 1) rfl (by omega) (by omega) (by have q := grdF_I (b := b) (j := j.toNat) (by omega) hJ; rw [(grdF_b (b := b) (j := j.toNat) (G := G') (c := c) (a := a) (by omega) (by omega) (by omega))] at q; exact q) (by rw [show (j + 1).toNat = j.toNat + 1 by omega, grd, i3, (grdF_b (b := b) (j := j.toNat) (G := G') (c := c) (a := a) (by omega) (by omega) (by omega))]) (fun _ => by rw [gcm_0]; omega) (fun k q => by first | exact hA k q | (simp only [zuA, zuS]; rw [zset_n q]; first | exact hA k q | (rw [zset_n q]; exact hA k q))) (fun k q q2 => by first | exact hB k q q2 | (simp only [zuA, zuS]; rw [zset_n q2, zset_n q]; exact hB k q q2)) (rfl) (hc9) (ha9) h hf
            · skip
              refine zr_aload_n hO (hl := rfl) (j := 1) (hi := rfl) dX3_reads_53 ?_
              refine zr_iconst hO dX3_reads_54 ?_
              refine zr_iload_n hO (hl := rfl) (j := 4) (hi := rfl) dX3_reads_55 ?_
              refine zr_cVv hO zc_X3 zw_X3_103 (c_X3_faults hI hf 3 j (⟨by omega, by omega⟩) (⟨by omega, by omega⟩)) dX3_reads_56 (zrd_of hf.1) rfl (rest := []) rfl ⟨Nat.le_of_ble_eq_true rfl, Nat.le_of_ble_eq_true rfl⟩ (Nat.le_of_ble_eq_true rfl) (Nat.le_refl _) (Nat.le_refl _) (fun h hx => ?_)
              have hf : zRf r ad (zuS (zuS ρ 9 3) 10 j) h0 h := hx
              clear hx
              refine zr_goto hO (tgt := 140) dX3_reads_59 rfl ?_
              refine zr_iinc hO (L' := [(3, zi (j + 1)), (4, zi (b j.toNat)), (0, zp r), (1, zi m), (2, zi o)]) (j := 4) dX3_reads_140 rfl (Nat.le_of_ble_eq_true rfl) rfl ?_
              refine zr_goto hO (tgt := 15) dX3_reads_143 rfl ?_
              refine zV.loc [2, 3, 4, 0] rfl ?_
              exact ih15 _ (by omega) (zuS (zuS ρ 9 3) 10 j) G' 3 j o (j + 1) rfl (by omega) (by omega) (by have q := grdF_I (b := b) (j := j.toNat) (by omega) hJ; rw [(grdF_a (b := b) (j := j.toNat) (G := G') (c := c) (a := a) (by omega) (by omega) (by omega)), Int.toNat_of_nonneg i1] at q; exact q) (by rw [show (j + 1).toNat = j.toNat + 1 by omega, grd, i3, (grdF_a (b := b) (j := j.toNat) (G := G') (c := c) (a := a) (by omega) (by omega) (by omega)), Int.toNat_of_nonneg i1]) (io) (fun k q => by first | exact hA k q | (simp only [zuA, zuS]; rw [zset_n q]; first | exact hA k q | (rw [zset_n q]; exact hA k q))) (fun k q q2 => by first | exact hB k q q2 | (simp only [zuA, zuS]; rw [zset_n q2, zset_n q]; exact hB k q q2)) (hG) (rfl) (rfl) h hf
    refine zV.loc [2, 3, 1, 0] rfl ?_
    exact hl15 _ (zuA σ 1 G9) G9 0 (-1) o 0 rfl (by omega) (by omega) (hGw) (by rw [show (0 : Int).toNat = 0 from rfl, grd, grd0, hG9]) (ho) (fun k q => by simp only [zuA]; exact zset_n q) (fun k q q2 => rfl) (zuA_at _ 1 _) (hk9.trans hz9) (hk10.trans hz10) h hf
  refine zr_iload_n hO (hl := rfl) (j := 1) (hi := rfl) dX3_reads_0 ?_
  refine zr_if_le hO ⟨by omega, by omega⟩ (tgt := 11) dX3_reads_1 rfl (fun c1 => ?_) (fun c1 => ?_)
  · skip
    refine zr_iconst hO dX3_reads_11 ?_
    exact hj12 g 0 (if_neg (by omega)) (fun q => absurd q (by omega)) (⟨hwg, by show g 1 = g 0; omega, fun q => absurd q (by omega), by show (0 : Int) ≤ 0; decide, by show (0 : Int) ≤ 3; decide⟩) h (zRf_eq (zuA_id' 1 hg).symm hf)
  · skip
    refine zr_aload_n hO (hl := rfl) (j := 0) (hi := rfl) dX3_reads_4 ?_
    refine zr_cVi hO zc_X3 zw_X3_99 (c_X3_comes hI hf hg  (by omega) (by omega) (by omega) (by omega)) dX3_reads_5 (zrd_of hf.1) rfl (rest := []) rfl ⟨Nat.le_of_ble_eq_true rfl, Nat.le_of_ble_eq_true rfl⟩ (Nat.le_of_ble_eq_true rfl) (Nat.le_refl _) (Nat.le_refl _) (fun x h hx => ?_)
    obtain ⟨hx, hf⟩ := hx
    have hx : x = 35 + 27 * g 0 := hx
    subst hx
    have hf : zRf r ad (zuA σ 1 (gcm g)) h0 h := hf
    refine zr_goto hO (tgt := 12) dX3_reads_8 rfl ?_
    exact hj12 (gcm g) (35 + 27 * g 0) (if_pos (by omega)) (fun q => by rw [gcm_0]; omega) (⟨zwf_cm hwg (by omega), by show gcm g 1 = gcm g 0; rw [gcm_0, gcm_1, hg0, hg1], fun _ => by show 1 ≤ gcm g 0; rw [gcm_0]; omega, by show (0 : Int) ≤ 0; decide, by show (0 : Int) ≤ 3; decide⟩) h hf
theorem zw_X3_82 : zYw RX3 RX3 82 yX3_clears cX3_clears 2 none 0 := ⟨q2966, q2968, qs43, q116, q2969, rfl, ⟨by decide +kernel, by decide +kernel, by decide +kernel⟩⟩
theorem zw_X3_119 : zYw RX3 RX3 119 yX3_reads cX3_reads 5 none 1 := ⟨q3093, q3095, qs46, q116, q3096, rfl, ⟨by decide +kernel, by decide +kernel, by decide +kernel⟩⟩
theorem c_X3_load {G : zG} {r : Nat} {ad : Nat → Nat} {h0 : zHp} (hI : zRI r ad) {σ : zS} {h : zHp} (hf : zRf r ad σ h0 h) {g : Nat → Int} (hg : σ.2 1 = g) {b : Nat → Int} (hb : σ.2 7 = b) {q : Int} (hq : σ.1 8 = q) (m : Int) (hm : zR m) (hq1 : 0 ≤ q) (hq2 : q ≤ 700) : zC G yX3_load cX3_load 2 (some Jvm.ClassFile.FieldType.int) 3 66 0 0 [zp r, zi m] h (zPi (fun x h' => x = (if 0 ≤ m ∧ m ≤ q then (if 0 < (grd b (grd0 (gclr g) m) m.toNat).2.1 then 0 else (grd b (grd0 (gclr g) m) m.toNat).1 0) else 0) ∧ ∃ τ : zS, τ.1 0 = (if 0 ≤ m ∧ m ≤ q then (if 0 < (grd b (grd0 (gclr g) m) m.toNat).2.1 then 2 else 0) else 1) ∧ zCo (if 0 ≤ m ∧ m ≤ q then (if 0 < (grd b (grd0 (gclr g) m) m.toNat).2.1 then zuS (zuS (zuS σ 8 0) 9 (grd b (grd0 (gclr g) m) m.toNat).2.1) 10 (grd b (grd0 (gclr g) m) m.toNat).2.2 else zuA (zuS (zuS (zuS (zuS (zuA σ 1 (grdz b (gclr g) m)) 8 0) 9 (grd b (grd0 (gclr g) m) m.toNat).2.1) 10 (grd b (grd0 (gclr g) m) m.toNat).2.2) 6 0) 5 (zset (zset (σ.2 5) 0 0) 1 0)) else σ) τ ∧ zRf r ad τ h0 h') zNo) := by
  refine zC.of zpn_X3 (Nat.le_of_ble_eq_true rfl) (L := [(0, zp r), (1, zi m)]) rfl (fun K hO => ?_)
  obtain ⟨hma, hmb⟩ := hm
  refine zr_aload_n hO (hl := rfl) (j := 0) (hi := rfl) dX3_load_0 ?_
  refine zr_iload_n hO (hl := rfl) (j := 1) (hi := rfl) dX3_load_1 ?_
  refine zr_iconst hO dX3_load_2 ?_
  refine zr_aload_n hO (hl := rfl) (j := 0) (hi := rfl) dX3_load_3 ?_
  refine zs_get hO hf 8 (x := q) dX3_load_4 q2978 (Nat.le_of_ble_eq_true rfl) (congrArg (fun z => some (zi z)) hq) (fun ⟨r1a, r1b⟩ => ?_)
  refine zr_cSi hO zw_X3_95 (c_X3_in m 0 q (⟨by omega, by omega⟩) (⟨by omega, by omega⟩) (⟨by omega, by omega⟩)) dX3_load_7 rfl (rest := [zp r]) rfl ⟨Nat.le_of_ble_eq_true rfl, Nat.le_of_ble_eq_true rfl⟩ (Nat.le_of_ble_eq_true rfl) (Nat.le_refl _) (Nat.le_refl _) (fun x h hx => ?_)
  obtain ⟨hx, rfl⟩ := hx
  have hx : x = zB (0 ≤ m ∧ m ≤ q) := hx
  subst hx
  refine zr_cVi hO zc_X3 zw_X3_111 (c_X3_may hI hf (zB (0 ≤ m ∧ m ≤ q)) (zB_01 _)) dX3_load_10 (zrd_of hf.1) rfl (rest := []) rfl ⟨Nat.le_of_ble_eq_true rfl, Nat.le_of_ble_eq_true rfl⟩ (Nat.le_of_ble_eq_true rfl) (Nat.le_refl _) (Nat.le_refl _) (fun x h hx => ?_)
  obtain ⟨hx, hf⟩ := hx
  have hx : x = (zB (0 ≤ m ∧ m ≤ q)) := hx
  subst hx
  have hf : zRf r ad (zuS σ 0 (1 - (zB (0 ≤ m ∧ m ≤ q)))) h0 h := hf
  refine zr_if_ne hO (zR_B _) (tgt := 18) dX3_load_13 rfl (fun c13 => ?_) (fun c13 => ?_)
  · skip
    have c13 := zB_ne c13
    refine zr_aload_n hO (hl := rfl) (j := 0) (hi := rfl) dX3_load_18 ?_
    refine zr_iconst hO dX3_load_19 ?_
    refine zs_put hO hI hf 8 dX3_load_20 q2978 (Nat.le_of_ble_eq_true rfl) rfl rfl rfl ⟨by omega, by omega⟩ (fun h hf => ?_)
    refine zr_aload_n hO (hl := rfl) (j := 0) (hi := rfl) dX3_load_23 ?_
    refine zr_iconst hO dX3_load_24 ?_
    refine zs_put hO hI hf 9 dX3_load_25 q2979 (Nat.le_of_ble_eq_true rfl) rfl rfl rfl ⟨by omega, by omega⟩ (fun h hf => ?_)
    refine zr_aload_n hO (hl := rfl) (j := 0) (hi := rfl) dX3_load_28 ?_
    refine zr_iconst hO dX3_load_29 ?_
    refine zs_put hO hI hf 10 dX3_load_30 q2980 (Nat.le_of_ble_eq_true rfl) rfl rfl rfl ⟨by omega, by omega⟩ (fun h hf => ?_)
    refine zr_aload_n hO (hl := rfl) (j := 0) (hi := rfl) dX3_load_33 ?_
    refine zs_arr hO hf 1 dX3_load_34 q2971 (Nat.le_of_ble_eq_true rfl) rfl ?_
    refine zr_iconst hO dX3_load_37 ?_
    refine zr_aload_n hO (hl := rfl) (j := 0) (hi := rfl) dX3_load_38 ?_
    refine zs_arr hO hf 2 dX3_load_39 q2972 (Nat.le_of_ble_eq_true rfl) rfl ?_
    refine zr_iconst hO dX3_load_42 ?_
    refine zr_cSv hO zw_X3_115 (c_X3_copies hI hf 1 2 0 0 rfl rfl rfl rfl (by omega) (by have : zRN 1 = 2195 := rfl; omega) (by omega) (by have : zRN 2 = 2195 := rfl; omega) (by first | exact Or.inl (by decide) | omega) (by omega) (by omega)) dX3_load_43 rfl (rest := []) rfl ⟨Nat.le_of_ble_eq_true rfl, Nat.le_of_ble_eq_true rfl⟩ (Nat.le_of_ble_eq_true rfl) (Nat.le_refl _) (Nat.le_refl _) (fun h hx => ?_)
    have hf : zRf r ad (zuA (zuS (zuS (zuS (zuS σ 0 (1 - (zB (0 ≤ m ∧ m ≤ q)))) 8 0) 9 0) 10 (-1)) 2 (gcp g 0 (σ.2 2) 0 2195)) h0 h := gcp_eq hg ((zuS_2 (zuS (zuS (zuS σ 0 (1 - (zB (0 ≤ m ∧ m ≤ q)))) 8 0) 9 0) 10 (-1) 2).trans ((zuS_2 (zuS (zuS σ 0 (1 - (zB (0 ≤ m ∧ m ≤ q)))) 8 0) 9 0 2).trans ((zuS_2 (zuS σ 0 (1 - (zB (0 ≤ m ∧ m ≤ q)))) 8 0 2).trans (zuS_2 σ 0 (1 - (zB (0 ≤ m ∧ m ≤ q))) 2)))) hx
    refine zr_aload_n hO (hl := rfl) (j := 0) (hi := rfl) dX3_load_46 ?_
    refine zr_cVv hO zc_X3 zw_X3_82 (c_X3_clears hI hf hg ) dX3_load_47 (zrd_of hf.1) rfl (rest := []) rfl ⟨Nat.le_of_ble_eq_true rfl, Nat.le_of_ble_eq_true rfl⟩ (Nat.le_of_ble_eq_true rfl) (Nat.le_refl _) (Nat.le_refl _) (fun h hx => ?_)
    have hf : zRf r ad (zuA (zuA (zuS (zuS (zuS (zuS σ 0 (1 - (zB (0 ≤ m ∧ m ≤ q)))) 8 0) 9 0) 10 (-1)) 2 (gcp g 0 (σ.2 2) 0 2195)) 1 (gclr g)) h0 h := hx
    clear hx
    refine zr_aload_n hO (hl := rfl) (j := 0) (hi := rfl) dX3_load_50 ?_
    refine zr_iload_n hO (hl := rfl) (j := 1) (hi := rfl) dX3_load_51 ?_
    refine zr_cVv hO zc_X3 zw_X3_119 (c_X3_reads hI hf (zuA_at (zuA (zuS (zuS (zuS (zuS σ 0 (1 - (zB (0 ≤ m ∧ m ≤ q)))) 8 0) 9 0) 10 (-1)) 2 (gcp g 0 (σ.2 2) 0 2195)) 1 (gclr g)) hb ((zuA_1 (zuA (zuS (zuS (zuS (zuS σ 0 (1 - (zB (0 ≤ m ∧ m ≤ q)))) 8 0) 9 0) 10 (-1)) 2 (gcp g 0 (σ.2 2) 0 2195)) 1 (gclr g) 9).trans ((zuA_1 (zuS (zuS (zuS (zuS σ 0 (1 - (zB (0 ≤ m ∧ m ≤ q)))) 8 0) 9 0) 10 (-1)) 2 (gcp g 0 (σ.2 2) 0 2195) 9).trans ((zuS_ne (zuS (zuS (zuS σ 0 (1 - (zB (0 ≤ m ∧ m ≤ q)))) 8 0) 9 0) 10 (-1) (j := 9) (by decide)).trans (zuS_at (zuS (zuS σ 0 (1 - (zB (0 ≤ m ∧ m ≤ q)))) 8 0) 9 0)))) ((zuA_1 (zuA (zuS (zuS (zuS (zuS σ 0 (1 - (zB (0 ≤ m ∧ m ≤ q)))) 8 0) 9 0) 10 (-1)) 2 (gcp g 0 (σ.2 2) 0 2195)) 1 (gclr g) 10).trans ((zuA_1 (zuS (zuS (zuS (zuS σ 0 (1 - (zB (0 ≤ m ∧ m ≤ q)))) 8 0) 9 0) 10 (-1)) 2 (gcp g 0 (σ.2 2) 0 2195) 10).trans (zuS_at (zuS (zuS (zuS σ 0 (1 - (zB (0 ≤ m ∧ m ≤ q)))) 8 0) 9 0) 10 (-1)))) m (⟨by omega, by omega⟩) (by omega) (by omega) (zwf_clr g) (gclr_0 g) (gclr_1 g) (rfl) (rfl)) dX3_load_52 (zrd_of hf.1) rfl (rest := []) rfl ⟨Nat.le_of_ble_eq_true rfl, Nat.le_of_ble_eq_true rfl⟩ (Nat.le_of_ble_eq_true rfl) (Nat.le_refl _) (Nat.le_refl _) (fun h hx => ?_)
    have hf : zRf r ad (zuS (zuS (zuA (zuA (zuA (zuS (zuS (zuS (zuS σ 0 (1 - (zB (0 ≤ m ∧ m ≤ q)))) 8 0) 9 0) 10 (-1)) 2 (gcp g 0 (σ.2 2) 0 2195)) 1 (gclr g)) 1 (grdz b (gclr g) m)) 9 ((grd b (grd0 (gclr g) m) m.toNat).2.1)) 10 ((grd b (grd0 (gclr g) m) m.toNat).2.2)) h0 h := hx
    clear hx
    have hbk : ∀ j : Nat, 2195 ≤ j → grdz b (gclr g) m j = g j := fun j hj => by rw [grdz_hi (zwf_clr g) (gclr_0 g) (gclr_1 g) (by omega) hj, gclr_hi g hj]
    have hrI := grd_I (b := b) (grd0_I (m := m) (zwf_clr g) (gclr_0 g) (gclr_1 g)) m.toNat (by omega)
    obtain ⟨-, -, -, hrc1, hrc2⟩ := hrI
    refine zr_aload_n hO (hl := rfl) (j := 0) (hi := rfl) dX3_load_55 ?_
    refine zs_get hO hf 9 (x := (grd b (grd0 (gclr g) m) m.toNat).2.1) dX3_load_56 q2979 (Nat.le_of_ble_eq_true rfl) rfl (fun ⟨r3a, r3b⟩ => ?_)
    refine zr_if_le hO ⟨by omega, by omega⟩ (tgt := 82) dX3_load_59 rfl (fun c59 => ?_) (fun c59 => ?_)
    · skip
      refine zr_aload_n hO (hl := rfl) (j := 0) (hi := rfl) dX3_load_82 ?_
      refine zr_iconst hO dX3_load_83 ?_
      refine zs_put hO hI hf 6 dX3_load_84 q2976 (Nat.le_of_ble_eq_true rfl) rfl rfl rfl ⟨by omega, by omega⟩ (fun h hf => ?_)
      refine zr_aload_n hO (hl := rfl) (j := 0) (hi := rfl) dX3_load_87 ?_
      refine zs_arr hO hf 5 dX3_load_88 q2975 (Nat.le_of_ble_eq_true rfl) rfl ?_
      refine zr_iconst hO dX3_load_91 ?_
      refine zr_iconst hO dX3_load_92 ?_
      refine zs_zst hO hI hf 5 (f := σ.2 5) (n := 2) (j := 0) dX3_load_93 rfl rfl rfl rfl (by omega) (by omega) rfl (Or.inl rfl) (fun h hf => ?_)
      refine zr_aload_n hO (hl := rfl) (j := 0) (hi := rfl) dX3_load_94 ?_
      refine zs_arr hO hf 5 dX3_load_95 q2975 (Nat.le_of_ble_eq_true rfl) rfl ?_
      refine zr_iconst hO dX3_load_98 ?_
      refine zr_iconst hO dX3_load_99 ?_
      refine zs_zst hO hI hf 5 (f := zset (σ.2 5) 0 0) (n := 2) (j := 1) dX3_load_100 rfl rfl rfl rfl (by omega) (by omega) rfl (Or.inl rfl) (fun h hf => ?_)
      refine zr_aload_n hO (hl := rfl) (j := 0) (hi := rfl) dX3_load_101 ?_
      refine zs_arr hO hf 1 dX3_load_102 q2971 (Nat.le_of_ble_eq_true rfl) rfl ?_
      refine zr_iconst hO dX3_load_105 ?_
      refine zs_ild hO hf 1 (f := grdz b (gclr g) m) (n := 2195) (j := 0) dX3_load_106 rfl rfl rfl rfl (by omega) (by omega) rfl (fun ⟨r4a, r4b⟩ => ?_)
      rw [show ((grdz b (gclr g) m) 0) = (grd b (grd0 (gclr g) m) m.toNat).1 0 from (zset_n (by decide))]
      exact zr_ireturn hO dX3_load_107 ⟨(by rw [if_pos c13, if_neg (by omega)]), (zuA (zuA (zuS (zuS (zuS (zuA (zuA (zuA (zuS (zuS (zuS (zuS σ 0 (1 - (zB (0 ≤ m ∧ m ≤ q)))) 8 0) 9 0) 10 (-1)) 2 (gcp g 0 (σ.2 2) 0 2195)) 1 (gclr g)) 1 (grdz b (gclr g) m)) 9 ((grd b (grd0 (gclr g) m) m.toNat).2.1)) 10 ((grd b (grd0 (gclr g) m) m.toNat).2.2)) 6 0) 5 (zset (σ.2 5) 0 0)) 5 (zset (zset (σ.2 5) 0 0) 1 0)), (by rw [if_pos c13, if_neg (by omega)]; show 1 - zB (0 ≤ m ∧ m ≤ q) = 0; rw [zB_t c13]; rfl), (by rw [if_pos c13, if_neg (by omega)]; exact zCo.eq (((((((((((((zCo.refl σ).uS (k := 0) (by decide) (1 - (zB (0 ≤ m ∧ m ≤ q)))).cS 8 0).cS 9 0).cS 10 (-1)).uA (k := 2) rfl (gcp g 0 (σ.2 2) 0 2195)).cA 1 (gclr g)).cA 1 (grdz b (gclr g) m)).cS 9 ((grd b (grd0 (gclr g) m) m.toNat).2.1)).cS 10 ((grd b (grd0 (gclr g) m) m.toNat).2.2)).cS 6 0).cA 5 (zset (σ.2 5) 0 0)).cA 5 (zset (zset (σ.2 5) 0 0) 1 0)) (fun k => by simp only [zuS, zuA, zset] <;> (repeat' split) <;> first | rfl | omega) (fun k hk => by simp only [zuS, zuA, zset] <;> (repeat' split) <;> first | rfl | omega)), hf⟩
    · skip
      refine zr_aload_n hO (hl := rfl) (j := 0) (hi := rfl) dX3_load_62 ?_
      refine zs_arr hO hf 2 dX3_load_63 q2972 (Nat.le_of_ble_eq_true rfl) rfl ?_
      refine zr_iconst hO dX3_load_66 ?_
      refine zr_aload_n hO (hl := rfl) (j := 0) (hi := rfl) dX3_load_67 ?_
      refine zs_arr hO hf 1 dX3_load_68 q2971 (Nat.le_of_ble_eq_true rfl) rfl ?_
      refine zr_iconst hO dX3_load_71 ?_
      refine zr_cSv hO zw_X3_115 (c_X3_copies hI hf 2 1 0 0 rfl rfl rfl rfl (by omega) (by have : zRN 2 = 2195 := rfl; omega) (by omega) (by have : zRN 1 = 2195 := rfl; omega) (by first | exact Or.inl (by decide) | omega) (by omega) (by omega)) dX3_load_72 rfl (rest := []) rfl ⟨Nat.le_of_ble_eq_true rfl, Nat.le_of_ble_eq_true rfl⟩ (Nat.le_of_ble_eq_true rfl) (Nat.le_refl _) (Nat.le_refl _) (fun h hx => ?_)
      have hf : zRf r ad (zuA (zuS (zuS (zuA (zuA (zuA (zuS (zuS (zuS (zuS σ 0 (1 - (zB (0 ≤ m ∧ m ≤ q)))) 8 0) 9 0) 10 (-1)) 2 (gcp g 0 (σ.2 2) 0 2195)) 1 (gclr g)) 1 (grdz b (gclr g) m)) 9 ((grd b (grd0 (gclr g) m) m.toNat).2.1)) 10 ((grd b (grd0 (gclr g) m) m.toNat).2.2)) 1 (gcp (gcp g 0 (σ.2 2) 0 2195) 0 (grdz b (gclr g) m) 0 2195)) h0 h := gcp_eq ((zuS_2 (zuS (zuA (zuA (zuA (zuS (zuS (zuS (zuS σ 0 (1 - (zB (0 ≤ m ∧ m ≤ q)))) 8 0) 9 0) 10 (-1)) 2 (gcp g 0 (σ.2 2) 0 2195)) 1 (gclr g)) 1 (grdz b (gclr g) m)) 9 ((grd b (grd0 (gclr g) m) m.toNat).2.1)) 10 ((grd b (grd0 (gclr g) m) m.toNat).2.2) 2).trans ((zuS_2 (zuA (zuA (zuA (zuS (zuS (zuS (zuS σ 0 (1 - (zB (0 ≤ m ∧ m ≤ q)))) 8 0) 9 0) 10 (-1)) 2 (gcp g 0 (σ.2 2) 0 2195)) 1 (gclr g)) 1 (grdz b (gclr g) m)) 9 ((grd b (grd0 (gclr g) m) m.toNat).2.1) 2).trans ((zuA_ne (zuA (zuA (zuS (zuS (zuS (zuS σ 0 (1 - (zB (0 ≤ m ∧ m ≤ q)))) 8 0) 9 0) 10 (-1)) 2 (gcp g 0 (σ.2 2) 0 2195)) 1 (gclr g)) 1 (grdz b (gclr g) m) (j := 2) (by decide)).trans ((zuA_ne (zuA (zuS (zuS (zuS (zuS σ 0 (1 - (zB (0 ≤ m ∧ m ≤ q)))) 8 0) 9 0) 10 (-1)) 2 (gcp g 0 (σ.2 2) 0 2195)) 1 (gclr g) (j := 2) (by decide)).trans (zuA_at (zuS (zuS (zuS (zuS σ 0 (1 - (zB (0 ≤ m ∧ m ≤ q)))) 8 0) 9 0) 10 (-1)) 2 (gcp g 0 (σ.2 2) 0 2195)))))) ((zuS_2 (zuS (zuA (zuA (zuA (zuS (zuS (zuS (zuS σ 0 (1 - (zB (0 ≤ m ∧ m ≤ q)))) 8 0) 9 0) 10 (-1)) 2 (gcp g 0 (σ.2 2) 0 2195)) 1 (gclr g)) 1 (grdz b (gclr g) m)) 9 ((grd b (grd0 (gclr g) m) m.toNat).2.1)) 10 ((grd b (grd0 (gclr g) m) m.toNat).2.2) 1).trans ((zuS_2 (zuA (zuA (zuA (zuS (zuS (zuS (zuS σ 0 (1 - (zB (0 ≤ m ∧ m ≤ q)))) 8 0) 9 0) 10 (-1)) 2 (gcp g 0 (σ.2 2) 0 2195)) 1 (gclr g)) 1 (grdz b (gclr g) m)) 9 ((grd b (grd0 (gclr g) m) m.toNat).2.1) 1).trans (zuA_at (zuA (zuA (zuS (zuS (zuS (zuS σ 0 (1 - (zB (0 ≤ m ∧ m ≤ q)))) 8 0) 9 0) 10 (-1)) 2 (gcp g 0 (σ.2 2) 0 2195)) 1 (gclr g)) 1 (grdz b (gclr g) m)))) hx
      refine zr_aload_n hO (hl := rfl) (j := 0) (hi := rfl) dX3_load_75 ?_
      refine zr_iconst hO dX3_load_76 ?_
      refine zs_put hO hI hf 0 dX3_load_77 q2970 (Nat.le_of_ble_eq_true rfl) rfl rfl rfl ⟨by omega, by omega⟩ (fun h hf => ?_)
      refine zr_iconst hO dX3_load_80 ?_
      exact zr_ireturn hO dX3_load_81 ⟨(by rw [if_pos c13, if_pos (by omega)]), (zuS (zuA (zuS (zuS (zuA (zuA (zuA (zuS (zuS (zuS (zuS σ 0 (1 - (zB (0 ≤ m ∧ m ≤ q)))) 8 0) 9 0) 10 (-1)) 2 (gcp g 0 (σ.2 2) 0 2195)) 1 (gclr g)) 1 (grdz b (gclr g) m)) 9 ((grd b (grd0 (gclr g) m) m.toNat).2.1)) 10 ((grd b (grd0 (gclr g) m) m.toNat).2.2)) 1 (gcp (gcp g 0 (σ.2 2) 0 2195) 0 (grdz b (gclr g) m) 0 2195)) 0 2), (by rw [if_pos c13, if_pos (by omega)]; exact rfl), (by rw [if_pos c13, if_pos (by omega)]; exact zCo.eq ((((((((((((zCo.refl σ).uS (k := 0) (by decide) (1 - (zB (0 ≤ m ∧ m ≤ q)))).cS 8 0).cS 9 0).cS 10 (-1)).uA (k := 2) rfl (gcp g 0 (σ.2 2) 0 2195)).cA 1 (gclr g)).cA 1 (grdz b (gclr g) m)).cS 9 ((grd b (grd0 (gclr g) m) m.toNat).2.1)).cS 10 ((grd b (grd0 (gclr g) m) m.toNat).2.2)).cA 1 (gcp (gcp g 0 (σ.2 2) 0 2195) 0 (grdz b (gclr g) m) 0 2195)).uS (k := 0) (by decide) 2) (fun k => by simp only [zuS, zuA, zset] <;> (repeat' split) <;> first | rfl | omega) (fun k hk => by simp only [zuS, zuA, zset] <;> (repeat' split) <;> first | omega | (rename_i q9; rw [gcp_back hbk, q9, hg]) | rfl)), hf⟩
  · skip
    have c13 := zB_eq c13
    refine zr_iconst hO dX3_load_16 ?_
    exact zr_ireturn hO dX3_load_17 ⟨(by rw [if_neg c13]), (zuS σ 0 (1 - (zB (0 ≤ m ∧ m ≤ q)))), (by rw [if_neg c13, zB_f c13] ; exact rfl), (by rw [if_neg c13]; exact ((zCo.refl σ).uS (k := 0) (by decide) (1 - (zB (0 ≤ m ∧ m ≤ q))))), hf⟩
