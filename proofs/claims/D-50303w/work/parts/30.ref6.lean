/-! THE REFERENCE: queries, on (printed by gen/refs.py) -/
theorem c_X3_byteOf {G : zG} {r : Nat} {ad : Nat → Nat} {h0 : zHp} (hI : zRI r ad) {σ : zS} {h : zHp} (hf : zRf r ad σ h0 h) {g : Nat → Int} (hg : σ.2 1 = g) (n : Int) (i : Int) (hn : zR n) (hi : zR i) (hw : zwf g) : zC G yX3_byteOf cX3_byteOf 3 (some Jvm.ClassFile.FieldType.int) 3 64 0 0 [zp r, zi n, zi i] h (zPi (fun x h' => x = (if (1 ≤ n ∧ n ≤ g 0) ∧ (0 ≤ i ∧ i ≤ gln g n - 1) then gch g n i else 0) ∧ ∃ τ : zS, τ.1 0 = (1 - zB ((1 ≤ n ∧ n ≤ g 0) ∧ (0 ≤ i ∧ i ≤ gln g n - 1))) ∧ zCo σ τ ∧ zRf r ad τ h0 h') zNo) := by
  refine zC.of zpn_X3 (Nat.le_of_ble_eq_true rfl) (L := [(0, zp r), (1, zi n), (2, zi i)]) rfl (fun K hO => ?_)
  obtain ⟨w1, w2, w3⟩ := id hw
  obtain ⟨hna, hnb⟩ := hn
  obtain ⟨hia, hib⟩ := hi
  have hj29 : ∀ (b : Int) (hb : b = zB ((1 ≤ n ∧ n ≤ g 0) ∧ (0 ≤ i ∧ i ≤ gln g n - 1))) (h : zHp) (hf : zRf r ad σ h0 h), zV G K 0 0 h 29 [(0, zp r), (1, zi n), (2, zi i)] [zi b, zp r] := by
    intro b hb h hf
    subst hb
    refine zr_cVi hO zc_X3 zw_X3_111 (c_X3_may hI hf (zB ((1 ≤ n ∧ n ≤ g 0) ∧ (0 ≤ i ∧ i ≤ gln g n - 1))) (zB_01 _)) dX3_byteOf_29 (zrd_of hf.1) rfl (rest := []) rfl ⟨Nat.le_of_ble_eq_true rfl, Nat.le_of_ble_eq_true rfl⟩ (Nat.le_of_ble_eq_true rfl) (Nat.le_refl _) (Nat.le_refl _) (fun x h hx => ?_)
    obtain ⟨hx, hf⟩ := hx
    have hx : x = (zB ((1 ≤ n ∧ n ≤ g 0) ∧ (0 ≤ i ∧ i ≤ gln g n - 1))) := hx
    subst hx
    have hf : zRf r ad (zuS σ 0 (1 - (zB ((1 ≤ n ∧ n ≤ g 0) ∧ (0 ≤ i ∧ i ≤ gln g n - 1))))) h0 h := hf
    refine zr_if_eq hO (zR_B _) (tgt := 44) dX3_byteOf_32 rfl (fun c32 => ?_) (fun c32 => ?_)
    · skip
      have c32 := zB_eq c32
      refine zr_iconst hO dX3_byteOf_44 ?_
      exact zr_ireturn hO dX3_byteOf_45 ⟨(by rw [if_neg c32]), (zuS σ 0 (1 - (zB ((1 ≤ n ∧ n ≤ g 0) ∧ (0 ≤ i ∧ i ≤ gln g n - 1))))), (rfl), ((zCo.refl σ).uS (k := 0) (by decide) (1 - (zB ((1 ≤ n ∧ n ≤ g 0) ∧ (0 ≤ i ∧ i ≤ gln g n - 1))))), hf⟩
    · skip
      have c32 := zB_ne c32
      have w3n := w3 n (by omega) (by omega)
      refine zr_aload_n hO (hl := rfl) (j := 0) (hi := rfl) dX3_byteOf_35 ?_
      refine zr_iload_n hO (hl := rfl) (j := 1) (hi := rfl) dX3_byteOf_36 ?_
      refine zr_iload_n hO (hl := rfl) (j := 2) (hi := rfl) dX3_byteOf_37 ?_
      refine zr_cVi hO zc_X3 zw_X3_133 (c_X3_byteAt hI hf hg n i (by omega) (by omega) (by omega) (by omega)) dX3_byteOf_38 (zrd_of hf.1) rfl (rest := []) rfl ⟨Nat.le_of_ble_eq_true rfl, Nat.le_of_ble_eq_true rfl⟩ (Nat.le_of_ble_eq_true rfl) (Nat.le_refl _) (Nat.le_refl _) (fun x h hx => ?_)
      obtain ⟨hx, ⟨r2a, r2b⟩, hf⟩ := hx
      have hx : x = gch g n i := hx
      subst hx
      refine zr_goto hO (tgt := 45) dX3_byteOf_41 rfl ?_
      exact zr_ireturn hO dX3_byteOf_45 ⟨(by rw [if_pos c32]), (zuS σ 0 (1 - (zB ((1 ≤ n ∧ n ≤ g 0) ∧ (0 ≤ i ∧ i ≤ gln g n - 1))))), (rfl), ((zCo.refl σ).uS (k := 0) (by decide) (1 - (zB ((1 ≤ n ∧ n ≤ g 0) ∧ (0 ≤ i ∧ i ≤ gln g n - 1))))), hf⟩
  refine zr_aload_n hO (hl := rfl) (j := 0) (hi := rfl) dX3_byteOf_0 ?_
  refine zr_aload_n hO (hl := rfl) (j := 0) (hi := rfl) dX3_byteOf_1 ?_
  refine zr_iload_n hO (hl := rfl) (j := 1) (hi := rfl) dX3_byteOf_2 ?_
  refine zr_cVi hO zc_X3 zw_X3_167 (c_X3_isLine hI hf hg n (⟨by omega, by omega⟩)) dX3_byteOf_3 (zrd_of hf.1) rfl (rest := [zp r]) rfl ⟨Nat.le_of_ble_eq_true rfl, Nat.le_of_ble_eq_true rfl⟩ (Nat.le_of_ble_eq_true rfl) (Nat.le_refl _) (Nat.le_refl _) (fun x h hx => ?_)
  obtain ⟨hx, hf⟩ := hx
  have hx : x = zB (1 ≤ n ∧ n ≤ g 0) := hx
  subst hx
  refine zr_if_eq hO (zR_B _) (tgt := 28) dX3_byteOf_6 rfl (fun c6 => ?_) (fun c6 => ?_)
  · skip
    have c6 := zB_eq c6
    refine zr_iconst hO dX3_byteOf_28 ?_
    exact hj29 0 ((zB_f (by omega)).symm) h hf
  · skip
    have c6 := zB_ne c6
    have w3n := w3 n (by omega) (by omega)
    refine zr_iload_n hO (hl := rfl) (j := 2) (hi := rfl) dX3_byteOf_9 ?_
    refine zr_iconst hO dX3_byteOf_10 ?_
    refine zr_aload_n hO (hl := rfl) (j := 0) (hi := rfl) dX3_byteOf_11 ?_
    refine zr_iload_n hO (hl := rfl) (j := 1) (hi := rfl) dX3_byteOf_12 ?_
    refine zr_cVi hO zc_X3 zw_X3_139 (c_X3_length hI hf hg n (by omega) (by omega)) dX3_byteOf_13 (zrd_of hf.1) rfl (rest := [zi 0, zi i, zp r]) rfl ⟨Nat.le_of_ble_eq_true rfl, Nat.le_of_ble_eq_true rfl⟩ (Nat.le_of_ble_eq_true rfl) (Nat.le_refl _) (Nat.le_refl _) (fun x h hx => ?_)
    obtain ⟨hx, ⟨r4a, r4b⟩, hf⟩ := hx
    have hx : x = gln g n := hx
    subst hx
    refine zr_iconst hO dX3_byteOf_16 ?_
    refine zr_isub hO dX3_byteOf_17 ?_
    refine zr_cSi hO zw_X3_95 (c_X3_in i 0 ((gln g n) - 1) (⟨by omega, by omega⟩) (⟨by omega, by omega⟩) (⟨by omega, by omega⟩)) dX3_byteOf_18 rfl (rest := [zp r]) rfl ⟨Nat.le_of_ble_eq_true rfl, Nat.le_of_ble_eq_true rfl⟩ (Nat.le_of_ble_eq_true rfl) (Nat.le_refl _) (Nat.le_refl _) (fun x h hx => ?_)
    obtain ⟨hx, rfl⟩ := hx
    have hx : x = zB (0 ≤ i ∧ i ≤ ((gln g n) - 1)) := hx
    subst hx
    refine zr_if_eq hO (zR_B _) (tgt := 28) dX3_byteOf_21 rfl (fun c21 => ?_) (fun c21 => ?_)
    · skip
      have c21 := zB_eq c21
      refine zr_iconst hO dX3_byteOf_28 ?_
      exact hj29 0 ((zB_f (by omega)).symm) h hf
    · skip
      have c21 := zB_ne c21
      refine zr_iconst hO dX3_byteOf_24 ?_
      refine zr_goto hO (tgt := 29) dX3_byteOf_25 rfl ?_
      exact hj29 1 ((zB_t (by omega)).symm) h hf
theorem zw_X3_192 : zYw RX3 RX3 192 yX3_numberOf cX3_numberOf 3 (some Jvm.ClassFile.FieldType.int) 1 := ⟨q3193, q3195, qs65, q116, q3196, rfl, ⟨by decide +kernel, by decide +kernel, by decide +kernel⟩⟩
theorem c_X3_lineOfKey {G : zG} {r : Nat} {ad : Nat → Nat} {h0 : zHp} (hI : zRI r ad) {σ : zS} {h : zHp} (hf : zRf r ad σ h0 h) {g : Nat → Int} (hg : σ.2 1 = g) (key : Int) (hk : zR key) (hw : zwf g) : zC G yX3_lineOfKey cX3_lineOfKey 2 (some Jvm.ClassFile.FieldType.int) 3 64 0 0 [zp r, zi key] h (zPi (fun x h' => x = (gnu g key) ∧ ∃ τ : zS, τ.1 0 = 0 ∧ zCo σ τ ∧ zRf r ad τ h0 h') zNo) := by
  refine zC.of zpn_X3 (Nat.le_of_ble_eq_true rfl) (L := [(0, zp r), (1, zi key)]) rfl (fun K hO => ?_)
  obtain ⟨w1, w2, w3⟩ := id hw
  obtain ⟨hka, hkb⟩ := hk
  refine zr_aload_n hO (hl := rfl) (j := 0) (hi := rfl) dX3_lineOfKey_0 ?_
  refine zr_iconst hO dX3_lineOfKey_1 ?_
  refine zs_put hO hI hf 0 dX3_lineOfKey_2 q2970 (Nat.le_of_ble_eq_true rfl) rfl rfl rfl ⟨by omega, by omega⟩ (fun h hf => ?_)
  refine zr_aload_n hO (hl := rfl) (j := 0) (hi := rfl) dX3_lineOfKey_5 ?_
  refine zr_iload_n hO (hl := rfl) (j := 1) (hi := rfl) dX3_lineOfKey_6 ?_
  refine zr_cVi hO zc_X3 zw_X3_192 (c_X3_numberOf hI hf hg key (⟨by omega, by omega⟩) (by omega) (by omega)) dX3_lineOfKey_7 (zrd_of hf.1) rfl (rest := []) rfl ⟨Nat.le_of_ble_eq_true rfl, Nat.le_of_ble_eq_true rfl⟩ (Nat.le_of_ble_eq_true rfl) (Nat.le_refl _) (Nat.le_refl _) (fun x h hx => ?_)
  obtain ⟨hx, hf⟩ := hx
  have hx : x = gnu g key := hx
  subst hx
  exact zr_ireturn hO dX3_lineOfKey_10 ⟨rfl, (zuS σ 0 0), (rfl), ((zCo.refl σ).uS (k := 0) (by decide) 0), hf⟩
theorem c_X3_hasAt {G : zG} {r : Nat} {ad : Nat → Nat} {h0 : zHp} (hI : zRI r ad) {σ : zS} {h : zHp} (hf : zRf r ad σ h0 h) {g : Nat → Int} (hg : σ.2 1 = g) {b : Nat → Int} (hb : σ.2 7 = b) (n : Int) (i : Int) (m : Int) (h1 : 1 ≤ n) (h2 : n ≤ 80) (h3 : 0 ≤ gln g n) (h4 : gln g n ≤ 24) (hi1 : 0 ≤ i) (hi2 : i ≤ 24) (hm1 : 0 ≤ m) (hm2 : m ≤ 700) : zC G yX3_hasAt cX3_hasAt 5 (some Jvm.ClassFile.FieldType.boolean) 3 64 0 0 [zp r, zi n, zi i, zi m] h (zPi (fun x h' => x = zB (gha g b n i m) ∧ zRf r ad σ h0 h') zNo) := by
  refine zC.of zpn_X3 (Nat.le_of_ble_eq_true rfl) (L := [(0, zp r), (1, zi n), (2, zi i), (3, zi m)]) rfl (fun K hO => ?_)
  refine zr_iload_n hO (hl := rfl) (j := 2) (hi := rfl) dX3_hasAt_0 ?_
  refine zr_iload_n hO (hl := rfl) (j := 3) (hi := rfl) dX3_hasAt_1 ?_
  refine zr_iadd hO dX3_hasAt_2 ?_
  refine zr_aload_n hO (hl := rfl) (j := 0) (hi := rfl) dX3_hasAt_3 ?_
  refine zr_iload_n hO (hl := rfl) (j := 1) (hi := rfl) dX3_hasAt_4 ?_
  refine zr_cVi hO zc_X3 zw_X3_139 (c_X3_length hI hf hg n (by omega) (by omega)) dX3_hasAt_5 (zrd_of hf.1) rfl (rest := [zi (i + m)]) rfl ⟨Nat.le_of_ble_eq_true rfl, Nat.le_of_ble_eq_true rfl⟩ (Nat.le_of_ble_eq_true rfl) (Nat.le_refl _) (Nat.le_refl _) (fun x h hx => ?_)
  obtain ⟨hx, ⟨r1a, r1b⟩, hf⟩ := hx
  have hx : x = gln g n := hx
  subst hx
  refine zr_icmp_le hO ⟨by omega, by omega⟩ ⟨by omega, by omega⟩ (tgt := 13) dX3_hasAt_8 rfl (fun c8 => ?_) (fun c8 => ?_)
  · skip
    refine zr_iconst hO dX3_hasAt_13 ?_
    refine zr_istore hO (L' := [(4, zi 0), (0, zp r), (1, zi n), (2, zi i), (3, zi m)]) dX3_hasAt_14 (Nat.le_of_ble_eq_true rfl) rfl ?_
    have hl16 : ∀ (n9 : Nat) (k : Int), (m - k).toNat = n9 → ∀ (k1 : 0 ≤ k) (k2 : k ≤ m) (k3 : ∀ j : Nat, j < k.toNat → gch g n (i + j) = b j) (h : zHp) (hf : zRf r ad σ h0 h), zV G K 0 0 h 16 [(0, zp r), (1, zi n), (2, zi i), (3, zi m), (4, zi k)] [] := by
      intro n9
      induction n9 using Nat.strongRecOn with
      | _ n9 ih16 =>
      intro k hn16 k1 k2 k3 h hf
      refine zr_iload hO (hl := rfl) (j := 4) dX3_hasAt_16 ?_
      refine zr_iload_n hO (hl := rfl) (j := 3) (hi := rfl) dX3_hasAt_18 ?_
      refine zr_icmp_ge hO ⟨by omega, by omega⟩ ⟨by omega, by omega⟩ (tgt := 49) dX3_hasAt_19 rfl (fun c19 => ?_) (fun c19 => ?_)
      · skip
        refine zr_iconst hO dX3_hasAt_49 ?_
        exact zr_zreturn hO (znz (Or.inr rfl)) dX3_hasAt_50 ⟨(zB_t (show gha g b n i m from ⟨by omega, fun j hj => k3 j (by omega)⟩)).symm, hf⟩
      · skip
        refine zr_aload_n hO (hl := rfl) (j := 0) (hi := rfl) dX3_hasAt_22 ?_
        refine zr_iload_n hO (hl := rfl) (j := 1) (hi := rfl) dX3_hasAt_23 ?_
        refine zr_iload_n hO (hl := rfl) (j := 2) (hi := rfl) dX3_hasAt_24 ?_
        refine zr_iload hO (hl := rfl) (j := 4) dX3_hasAt_25 ?_
        refine zr_iadd hO dX3_hasAt_27 ?_
        refine zr_cVi hO zc_X3 zw_X3_133 (c_X3_byteAt hI hf hg n (i + k) (by omega) (by omega) (by omega) (by omega)) dX3_hasAt_28 (zrd_of hf.1) rfl (rest := []) rfl ⟨Nat.le_of_ble_eq_true rfl, Nat.le_of_ble_eq_true rfl⟩ (Nat.le_of_ble_eq_true rfl) (Nat.le_refl _) (Nat.le_refl _) (fun x h hx => ?_)
        obtain ⟨hx, ⟨r2a, r2b⟩, hf⟩ := hx
        have hx : x = gch g n (i + k) := hx
        subst hx
        refine zr_aload_n hO (hl := rfl) (j := 0) (hi := rfl) dX3_hasAt_31 ?_
        refine zs_arr hO hf 7 dX3_hasAt_32 q2977 (Nat.le_of_ble_eq_true rfl) rfl ?_
        refine zr_iload hO (hl := rfl) (j := 4) dX3_hasAt_35 ?_
        refine zs_bld hO hf 7 (f := b) (n := 700) (j := k.toNat) dX3_hasAt_37 rfl rfl rfl hb (by omega) (by omega) rfl (fun ⟨r3a, r3b⟩ => ?_)
        refine zr_icmp_eq hO ⟨by omega, by omega⟩ ⟨by omega, by omega⟩ (tgt := 43) dX3_hasAt_38 rfl (fun c38 => ?_) (fun c38 => ?_)
        · skip
          refine zr_iinc hO (L' := [(4, zi (k + 1)), (0, zp r), (1, zi n), (2, zi i), (3, zi m)]) (j := 4) dX3_hasAt_43 rfl (Nat.le_of_ble_eq_true rfl) rfl ?_
          refine zr_goto hO (tgt := 16) dX3_hasAt_46 rfl ?_
          refine zV.loc [1, 2, 3, 4, 0] rfl ?_
          exact ih16 _ (by omega) (k + 1) rfl (by omega) (by omega) (fun j hj => by by_cases e : j = k.toNat; (rw [e, Int.toNat_of_nonneg k1]; omega); exact k3 j (by omega)) h hf
        · skip
          refine zr_iconst hO dX3_hasAt_41 ?_
          exact zr_zreturn hO (znz (Or.inl rfl)) dX3_hasAt_42 ⟨(zB_f (show ¬ gha g b n i m from fun q => c38 (by have := q.2 k.toNat (by omega); rw [Int.toNat_of_nonneg k1] at this; exact this))).symm, hf⟩
    refine zV.loc [1, 2, 3, 4, 0] rfl ?_
    exact hl16 _ 0 rfl (by omega) (by omega) (fun j hj => absurd hj (by omega)) h hf
  · skip
    refine zr_iconst hO dX3_hasAt_11 ?_
    exact zr_zreturn hO (znz (Or.inl rfl)) dX3_hasAt_12 ⟨(zB_f (show ¬ gha g b n i m from fun q => by have := q.1; omega)).symm, hf⟩
theorem zw_X3_209 : zYw RX3 RX3 209 yX3_hasAt cX3_hasAt 5 (some Jvm.ClassFile.FieldType.boolean) 3 := ⟨q3231, q3233, qs69, q116, q3234, rfl, ⟨by decide +kernel, by decide +kernel, by decide +kernel⟩⟩
theorem c_X3_has {G : zG} {r : Nat} {ad : Nat → Nat} {h0 : zHp} (hI : zRI r ad) {σ : zS} {h : zHp} (hf : zRf r ad σ h0 h) {g : Nat → Int} (hg : σ.2 1 = g) {b : Nat → Int} (hb : σ.2 7 = b) (n : Int) (m : Int) (h1 : 1 ≤ n) (h2 : n ≤ 80) (h3 : 0 ≤ gln g n) (h4 : gln g n ≤ 24) (hm1 : 0 ≤ m) (hm2 : m ≤ 700) : zC G yX3_has cX3_has 4 (some Jvm.ClassFile.FieldType.boolean) 4 88 0 0 [zp r, zi n, zi m] h (zPi (fun x h' => x = zB (ghs g b n m) ∧ zRf r ad σ h0 h') zNo) := by
  refine zC.of zpn_X3 (Nat.le_of_ble_eq_true rfl) (L := [(0, zp r), (1, zi n), (2, zi m)]) rfl (fun K hO => ?_)
  refine zr_iconst hO dX3_has_0 ?_
  refine zr_istore_n hO (L' := [(3, zi 0), (0, zp r), (1, zi n), (2, zi m)]) (hi := rfl) dX3_has_1 (Nat.le_of_ble_eq_true rfl) rfl ?_
  have hl2 : ∀ (n9 : Nat) (k : Int), (gln g n - k).toNat = n9 → ∀ (k1 : 0 ≤ k) (k2 : k ≤ gln g n) (k3 : ∀ j : Nat, j < k.toNat → ¬ gha g b n j m) (h : zHp) (hf : zRf r ad σ h0 h), zV G K 0 0 h 2 [(0, zp r), (1, zi n), (2, zi m), (3, zi k)] [] := by
    intro n9
    induction n9 using Nat.strongRecOn with
    | _ n9 ih2 =>
    intro k hn2 k1 k2 k3 h hf
    refine zr_iload_n hO (hl := rfl) (j := 3) (hi := rfl) dX3_has_2 ?_
    refine zr_aload_n hO (hl := rfl) (j := 0) (hi := rfl) dX3_has_3 ?_
    refine zr_iload_n hO (hl := rfl) (j := 1) (hi := rfl) dX3_has_4 ?_
    refine zr_cVi hO zc_X3 zw_X3_139 (c_X3_length hI hf hg n (by omega) (by omega)) dX3_has_5 (zrd_of hf.1) rfl (rest := [zi k]) rfl ⟨Nat.le_of_ble_eq_true rfl, Nat.le_of_ble_eq_true rfl⟩ (Nat.le_of_ble_eq_true rfl) (Nat.le_refl _) (Nat.le_refl _) (fun x h hx => ?_)
    obtain ⟨hx, ⟨r1a, r1b⟩, hf⟩ := hx
    have hx : x = gln g n := hx
    subst hx
    refine zr_icmp_ge hO ⟨by omega, by omega⟩ ⟨by omega, by omega⟩ (tgt := 29) dX3_has_8 rfl (fun c8 => ?_) (fun c8 => ?_)
    · skip
      refine zr_iconst hO dX3_has_29 ?_
      exact zr_zreturn hO (znz (Or.inl rfl)) dX3_has_30 ⟨(zB_f (show ¬ ghs g b n m from fun ⟨j, q1, q2⟩ => k3 j (by omega) q2)).symm, hf⟩
    · skip
      refine zr_aload_n hO (hl := rfl) (j := 0) (hi := rfl) dX3_has_11 ?_
      refine zr_iload_n hO (hl := rfl) (j := 1) (hi := rfl) dX3_has_12 ?_
      refine zr_iload_n hO (hl := rfl) (j := 3) (hi := rfl) dX3_has_13 ?_
      refine zr_iload_n hO (hl := rfl) (j := 2) (hi := rfl) dX3_has_14 ?_
      refine zr_cVi hO zc_X3 zw_X3_209 (c_X3_hasAt hI hf hg hb n k m (by omega) (by omega) (by omega) (by omega) (by omega) (by omega) (by omega) (by omega)) dX3_has_15 (zrd_of hf.1) rfl (rest := []) rfl ⟨Nat.le_of_ble_eq_true rfl, Nat.le_of_ble_eq_true rfl⟩ (Nat.le_of_ble_eq_true rfl) (Nat.le_refl _) (Nat.le_refl _) (fun x h hx => ?_)
      obtain ⟨hx, hf⟩ := hx
      have hx : x = zB (gha g b n k m) := hx
      subst hx
      refine zr_if_eq hO (zR_B _) (tgt := 23) dX3_has_18 rfl (fun c18 => ?_) (fun c18 => ?_)
      · skip
        have c18 := zB_eq c18
        refine zr_iinc hO (L' := [(3, zi (k + 1)), (0, zp r), (1, zi n), (2, zi m)]) (j := 3) dX3_has_23 rfl (Nat.le_of_ble_eq_true rfl) rfl ?_
        refine zr_goto hO (tgt := 2) dX3_has_26 rfl ?_
        refine zV.loc [1, 2, 3, 0] rfl ?_
        exact ih2 _ (by omega) (k + 1) rfl (by omega) (by omega) (fun j hj => by by_cases e : j = k.toNat; (rw [e, Int.toNat_of_nonneg k1]; exact c18); exact k3 j (by omega)) h hf
      · skip
        have c18 := zB_ne c18
        refine zr_iconst hO dX3_has_21 ?_
        exact zr_zreturn hO (znz (Or.inr rfl)) dX3_has_22 ⟨(zB_t (show ghs g b n m from ⟨k.toNat, by omega, by rw [Int.toNat_of_nonneg k1]; exact c18⟩)).symm, hf⟩
  refine zV.loc [1, 2, 3, 0] rfl ?_
  exact hl2 _ 0 rfl (by omega) (by omega) (fun j hj => absurd hj (by omega)) h hf
theorem zw_X3_212 : zYw RX3 RX3 212 yX3_has cX3_has 4 (some Jvm.ClassFile.FieldType.boolean) 2 := ⟨q3227, q3229, qs68, q116, q3230, rfl, ⟨by decide +kernel, by decide +kernel, by decide +kernel⟩⟩
theorem c_X3_seek {G : zG} {r : Nat} {ad : Nat → Nat} {h0 : zHp} (hI : zRI r ad) {σ : zS} {h : zHp} (hf : zRf r ad σ h0 h) {g : Nat → Int} (hg : σ.2 1 = g) {b : Nat → Int} (hb : σ.2 7 = b) {q : Int} (hq : σ.1 8 = q) (m : Int) (n : Int) (f : Int) (hm : zR m) (hn : zR n) (hf1 : f = 0 ∨ f = 1) (hq1 : 0 ≤ q) (hq2 : q ≤ 700) (hw : zwf g) : zC G yX3_seek cX3_seek 6 (some Jvm.ClassFile.FieldType.int) 7 157 0 0 [zp r, zi m, zi n, zi f] h (zPi (fun x h' => x = (if (1 ≤ m ∧ m ≤ q) ∧ (1 ≤ n ∧ n ≤ g 0) then grn (g 0) n (fun k => decide ((f = 1 → ghH g (gcl g) k.toNat = 0) ∧ ghs g b k m)) else 0) ∧ ∃ τ : zS, τ.1 0 = (1 - zB ((1 ≤ m ∧ m ≤ q) ∧ (1 ≤ n ∧ n ≤ g 0))) ∧ zCo (if (1 ≤ m ∧ m ≤ q) ∧ (1 ≤ n ∧ n ≤ g 0) then zuS σ 8 0 else σ) τ ∧ zRf r ad τ h0 h') zNo) := by
  refine zC.of zpn_X3 (Nat.le_of_ble_eq_true rfl) (L := [(0, zp r), (1, zi m), (2, zi n), (3, zi f)]) rfl (fun K hO => ?_)
  obtain ⟨w1, w2, w3⟩ := id hw
  obtain ⟨hma, hmb⟩ := hm
  obtain ⟨hna, hnb⟩ := hn
  have hj26 : ∀ (b : Int) (hb : b = zB ((1 ≤ m ∧ m ≤ q) ∧ (1 ≤ n ∧ n ≤ g 0))) (h : zHp) (hf : zRf r ad σ h0 h), zV G K 0 0 h 26 [(0, zp r), (1, zi m), (2, zi n), (3, zi f)] [zi b, zp r] := by
    intro b hb h hf
    subst hb
    refine zr_cVi hO zc_X3 zw_X3_111 (c_X3_may hI hf (zB ((1 ≤ m ∧ m ≤ q) ∧ (1 ≤ n ∧ n ≤ g 0))) (zB_01 _)) dX3_seek_26 (zrd_of hf.1) rfl (rest := []) rfl ⟨Nat.le_of_ble_eq_true rfl, Nat.le_of_ble_eq_true rfl⟩ (Nat.le_of_ble_eq_true rfl) (Nat.le_refl _) (Nat.le_refl _) (fun x h hx => ?_)
    obtain ⟨hx, hf⟩ := hx
    have hx : x = (zB ((1 ≤ m ∧ m ≤ q) ∧ (1 ≤ n ∧ n ≤ g 0))) := hx
    subst hx
    have hf : zRf r ad (zuS σ 0 (1 - (zB ((1 ≤ m ∧ m ≤ q) ∧ (1 ≤ n ∧ n ≤ g 0))))) h0 h := hf
    refine zr_if_ne hO (zR_B _) (tgt := 34) dX3_seek_29 rfl (fun c29 => ?_) (fun c29 => ?_)
    · skip
      have c29 := zB_ne c29
      refine zr_aload_n hO (hl := rfl) (j := 0) (hi := rfl) dX3_seek_34 ?_
      refine zr_iconst hO dX3_seek_35 ?_
      refine zs_put hO hI hf 8 dX3_seek_36 q2978 (Nat.le_of_ble_eq_true rfl) rfl rfl rfl ⟨by omega, by omega⟩ (fun h hf => ?_)
      refine zr_aload_n hO (hl := rfl) (j := 0) (hi := rfl) dX3_seek_39 ?_
      refine zr_cVv hO zc_X3 zw_X3_174 (c_X3_layAll hI hf hg  (hw)) dX3_seek_40 (zrd_of hf.1) rfl (rest := []) rfl ⟨Nat.le_of_ble_eq_true rfl, Nat.le_of_ble_eq_true rfl⟩ (Nat.le_of_ble_eq_true rfl) (Nat.le_refl _) (Nat.le_refl _) (fun h hx => ?_)
      obtain ⟨τ1, hs1, hd1, hf⟩ := hx
      refine zr_iconst hO dX3_seek_43 ?_
      refine zr_istore hO (L' := [(4, zi 0), (0, zp r), (1, zi m), (2, zi n), (3, zi f)]) dX3_seek_44 (Nat.le_of_ble_eq_true rfl) rfl ?_
      have hl46 : ∀ (n9 : Nat) (i : Int), (g 0 - i).toNat = n9 → ∀ (i1 : 0 ≤ i) (i2 : i ≤ g 0) (i3 : ∀ j, 0 ≤ j → j < i → ¬ ((f = 1 → ghH g (gcl g) ((n - 1 + j) % g 0 + 1).toNat = 0) ∧ ghs g b ((n - 1 + j) % g 0 + 1) m)) (h : zHp) (hf : zRf r ad τ1 h0 h), zV G K 0 0 h 46 [(0, zp r), (1, zi m), (2, zi n), (3, zi f), (4, zi i)] [] := by
        intro n9
        induction n9 using Nat.strongRecOn with
        | _ n9 ih46 =>
        intro i hn46 i1 i2 i3 h hf
        refine zr_iload hO (hl := rfl) (j := 4) dX3_seek_46 ?_
        refine zr_aload_n hO (hl := rfl) (j := 0) (hi := rfl) dX3_seek_48 ?_
        refine zs_arr hO hf 1 dX3_seek_49 q2971 (Nat.le_of_ble_eq_true rfl) rfl ?_
        refine zr_iconst hO dX3_seek_52 ?_
        refine zs_ild hO hf 1 (f := g) (n := 2195) (j := 0) dX3_seek_53 rfl rfl rfl ((hs1.2 1 rfl).trans hg) (by omega) (by omega) rfl (fun ⟨r2a, r2b⟩ => ?_)
        refine zr_icmp_ge hO ⟨by omega, by omega⟩ ⟨by omega, by omega⟩ (tgt := 107) dX3_seek_54 rfl (fun c54 => ?_) (fun c54 => ?_)
        · skip
          refine zr_iconst hO dX3_seek_107 ?_
          exact zr_ireturn hO dX3_seek_108 ⟨(by rw [if_pos c29]; exact (grn_miss (fun j a c => decide_eq_false (i3 j a (by omega)))).symm), τ1, (((hs1.1 0 (by decide) (by decide)).trans rfl)), (by rw [if_pos c29]; exact ((((zCo.refl σ).uS (k := 0) (by decide) (1 - (zB ((1 ≤ m ∧ m ≤ q) ∧ (1 ≤ n ∧ n ≤ g 0))))).cS 8 0).tr hs1)), hf⟩
        · skip
          have hmd := Int.emod_nonneg (n - 1 + i) (show g 0 ≠ 0 by omega)
          have hml := Int.emod_lt_of_pos (n - 1 + i) (show 0 < g 0 by omega)
          have w3r := w3 ((n - 1 + i) % g 0 + 1) (by omega) (by omega)
          refine zr_iload_n hO (hl := rfl) (j := 2) (hi := rfl) dX3_seek_57 ?_
          refine zr_iconst hO dX3_seek_58 ?_
          refine zr_isub hO dX3_seek_59 ?_
          refine zr_iload hO (hl := rfl) (j := 4) dX3_seek_60 ?_
          refine zr_iadd hO dX3_seek_62 ?_
          refine zr_aload_n hO (hl := rfl) (j := 0) (hi := rfl) dX3_seek_63 ?_
          refine zs_arr hO hf 1 dX3_seek_64 q2971 (Nat.le_of_ble_eq_true rfl) rfl ?_
          refine zr_iconst hO dX3_seek_67 ?_
          refine zs_ild hO hf 1 (f := g) (n := 2195) (j := 0) dX3_seek_68 rfl rfl rfl ((hs1.2 1 rfl).trans hg) (by omega) (by omega) rfl (fun ⟨r3a, r3b⟩ => ?_)
          refine zr_irem hO (by omega) (by omega) (by omega) (by omega) dX3_seek_69 ?_
          refine zr_iconst hO dX3_seek_70 ?_
          refine zr_iadd hO dX3_seek_71 ?_
          refine zr_istore hO (L' := [(5, zi ((((n - 1) + i) % (g 0)) + 1)), (0, zp r), (1, zi m), (2, zi n), (3, zi f), (4, zi i)]) dX3_seek_72 (Nat.le_of_ble_eq_true rfl) rfl ?_
          refine zr_iload_n hO (hl := rfl) (j := 4) (hi := rfl) dX3_seek_74 ?_
          refine zr_if_eq hO ⟨by omega, by omega⟩ (tgt := 88) dX3_seek_75 rfl (fun c75 => ?_) (fun c75 => ?_)
          · skip
            refine zr_aload_n hO (hl := rfl) (j := 1) (hi := rfl) dX3_seek_88 ?_
            refine zr_iload hO (hl := rfl) (j := 0) dX3_seek_89 ?_
            refine zr_iload_n hO (hl := rfl) (j := 2) (hi := rfl) dX3_seek_91 ?_
            refine zr_cVi hO zc_X3 zw_X3_212 (c_X3_has hI hf ((hs1.2 1 rfl).trans hg) ((hs1.2 7 rfl).trans hb) ((((n - 1) + i) % (g 0)) + 1) m (by omega) (by omega) (by omega) (by omega) (by omega) (by omega)) dX3_seek_92 (zrd_of hf.1) rfl (rest := []) rfl ⟨Nat.le_of_ble_eq_true rfl, Nat.le_of_ble_eq_true rfl⟩ (Nat.le_of_ble_eq_true rfl) (Nat.le_refl _) (Nat.le_refl _) (fun x h hx => ?_)
            obtain ⟨hx, hf⟩ := hx
            have hx : x = zB (ghs g b ((((n - 1) + i) % (g 0)) + 1) m) := hx
            subst hx
            refine zr_if_eq hO (zR_B _) (tgt := 101) dX3_seek_95 rfl (fun c95 => ?_) (fun c95 => ?_)
            · skip
              have c95 := zB_eq c95
              refine zr_iinc hO (L' := [(4, zi (i + 1)), (5, zi ((((n - 1) + i) % (g 0)) + 1)), (0, zp r), (1, zi m), (2, zi n), (3, zi f)]) (j := 5) dX3_seek_101 rfl (Nat.le_of_ble_eq_true rfl) rfl ?_
              refine zr_goto hO (tgt := 46) dX3_seek_104 rfl ?_
              refine zV.loc [2, 3, 4, 5, 0] rfl ?_
              exact ih46 _ (by omega) (i + 1) rfl (by omega) (by omega) (fun j a c => by by_cases e : j = i; (rw [e]; intro q; first | exact c95 q.2 | (have := q.1 (by omega); omega)); exact i3 j a (by omega)) h hf
            · skip
              have c95 := zB_ne c95
              refine zr_iload hO (hl := rfl) (j := 0) dX3_seek_98 ?_
              exact zr_ireturn hO dX3_seek_100 ⟨(by rw [if_pos c29]; exact (grn_hit i1 (by omega) (decide_eq_true ⟨fun q => by omega, c95⟩) (fun j a c => decide_eq_false (i3 j a c))).symm), τ1, (((hs1.1 0 (by decide) (by decide)).trans rfl)), (by rw [if_pos c29]; exact ((((zCo.refl σ).uS (k := 0) (by decide) (1 - (zB ((1 ≤ m ∧ m ≤ q) ∧ (1 ≤ n ∧ n ≤ g 0))))).cS 8 0).tr hs1)), hf⟩
          · skip
            refine zr_aload_n hO (hl := rfl) (j := 1) (hi := rfl) dX3_seek_78 ?_
            refine zs_arr hO hf 21 dX3_seek_79 q2991 (Nat.le_of_ble_eq_true rfl) rfl ?_
            refine zr_iload hO (hl := rfl) (j := 0) dX3_seek_82 ?_
            refine zs_zld hO hf 21 (f := τ1.2 21) (n := 82) (j := ((((n - 1) + i) % (g 0)) + 1).toNat) dX3_seek_84 rfl rfl rfl rfl (by omega) (by omega) rfl (fun r5 => ?_)
            have hH01 := ghH_01 g (gcl g) ((n - 1 + i) % g 0 + 1).toNat
            rw [show ((τ1.2 21) (((((n - 1) + i) % (g 0)) + 1).toNat)) = ghH g (gcl g) ((n - 1 + i) % g 0 + 1).toNat from (zHd_at hd1.2.2 (by omega) (by omega)).2]
            refine zr_if_ne hO ⟨by omega, by omega⟩ (tgt := 101) dX3_seek_85 rfl (fun c85 => ?_) (fun c85 => ?_)
            · skip
              refine zr_iinc hO (L' := [(4, zi (i + 1)), (5, zi ((((n - 1) + i) % (g 0)) + 1)), (0, zp r), (1, zi m), (2, zi n), (3, zi f)]) (j := 5) dX3_seek_101 rfl (Nat.le_of_ble_eq_true rfl) rfl ?_
              refine zr_goto hO (tgt := 46) dX3_seek_104 rfl ?_
              refine zV.loc [2, 3, 4, 5, 0] rfl ?_
              exact ih46 _ (by omega) (i + 1) rfl (by omega) (by omega) (fun j a c => by by_cases e : j = i; (rw [e]; intro q; first | exact c95 q.2 | (have := q.1 (by omega); omega)); exact i3 j a (by omega)) h hf
            · skip
              refine zr_aload_n hO (hl := rfl) (j := 1) (hi := rfl) dX3_seek_88 ?_
              refine zr_iload hO (hl := rfl) (j := 0) dX3_seek_89 ?_
              refine zr_iload_n hO (hl := rfl) (j := 2) (hi := rfl) dX3_seek_91 ?_
              refine zr_cVi hO zc_X3 zw_X3_212 (c_X3_has hI hf ((hs1.2 1 rfl).trans hg) ((hs1.2 7 rfl).trans hb) ((((n - 1) + i) % (g 0)) + 1) m (by omega) (by omega) (by omega) (by omega) (by omega) (by omega)) dX3_seek_92 (zrd_of hf.1) rfl (rest := []) rfl ⟨Nat.le_of_ble_eq_true rfl, Nat.le_of_ble_eq_true rfl⟩ (Nat.le_of_ble_eq_true rfl) (Nat.le_refl _) (Nat.le_refl _) (fun x h hx => ?_)
              obtain ⟨hx, hf⟩ := hx
              have hx : x = zB (ghs g b ((((n - 1) + i) % (g 0)) + 1) m) := hx
              subst hx
              refine zr_if_eq hO (zR_B _) (tgt := 101) dX3_seek_95 rfl (fun c95 => ?_) (fun c95 => ?_)
              · skip
                have c95 := zB_eq c95
                refine zr_iinc hO (L' := [(4, zi (i + 1)), (5, zi ((((n - 1) + i) % (g 0)) + 1)), (0, zp r), (1, zi m), (2, zi n), (3, zi f)]) (j := 5) dX3_seek_101 rfl (Nat.le_of_ble_eq_true rfl) rfl ?_
                refine zr_goto hO (tgt := 46) dX3_seek_104 rfl ?_
                refine zV.loc [2, 3, 4, 5, 0] rfl ?_
                exact ih46 _ (by omega) (i + 1) rfl (by omega) (by omega) (fun j a c => by by_cases e : j = i; (rw [e]; intro q; first | exact c95 q.2 | (have := q.1 (by omega); omega)); exact i3 j a (by omega)) h hf
              · skip
                have c95 := zB_ne c95
                refine zr_iload hO (hl := rfl) (j := 0) dX3_seek_98 ?_
                exact zr_ireturn hO dX3_seek_100 ⟨(by rw [if_pos c29]; exact (grn_hit i1 (by omega) (decide_eq_true ⟨fun q => by omega, c95⟩) (fun j a c => decide_eq_false (i3 j a c))).symm), τ1, (((hs1.1 0 (by decide) (by decide)).trans rfl)), (by rw [if_pos c29]; exact ((((zCo.refl σ).uS (k := 0) (by decide) (1 - (zB ((1 ≤ m ∧ m ≤ q) ∧ (1 ≤ n ∧ n ≤ g 0))))).cS 8 0).tr hs1)), hf⟩
      refine zV.loc [1, 2, 3, 4, 0] rfl ?_
      exact hl46 _ 0 rfl (by omega) (by omega) (fun j a c => by omega) h hf
    · skip
      have c29 := zB_eq c29
      refine zr_iconst hO dX3_seek_32 ?_
      exact zr_ireturn hO dX3_seek_33 ⟨(by rw [if_neg c29]), (zuS σ 0 (1 - (zB ((1 ≤ m ∧ m ≤ q) ∧ (1 ≤ n ∧ n ≤ g 0))))), (rfl), (by rw [if_neg c29]; exact ((zCo.refl σ).uS (k := 0) (by decide) (1 - (zB ((1 ≤ m ∧ m ≤ q) ∧ (1 ≤ n ∧ n ≤ g 0)))))), hf⟩
  refine zr_aload_n hO (hl := rfl) (j := 0) (hi := rfl) dX3_seek_0 ?_
  refine zr_iload_n hO (hl := rfl) (j := 1) (hi := rfl) dX3_seek_1 ?_
  refine zr_iconst hO dX3_seek_2 ?_
  refine zr_aload_n hO (hl := rfl) (j := 0) (hi := rfl) dX3_seek_3 ?_
  refine zs_get hO hf 8 (x := q) dX3_seek_4 q2978 (Nat.le_of_ble_eq_true rfl) (congrArg (fun z => some (zi z)) hq) (fun ⟨r7a, r7b⟩ => ?_)
  refine zr_cSi hO zw_X3_95 (c_X3_in m 1 q (⟨by omega, by omega⟩) (⟨by omega, by omega⟩) (⟨by omega, by omega⟩)) dX3_seek_7 rfl (rest := [zp r]) rfl ⟨Nat.le_of_ble_eq_true rfl, Nat.le_of_ble_eq_true rfl⟩ (Nat.le_of_ble_eq_true rfl) (Nat.le_refl _) (Nat.le_refl _) (fun x h hx => ?_)
  obtain ⟨hx, rfl⟩ := hx
  have hx : x = zB (1 ≤ m ∧ m ≤ q) := hx
  subst hx
  refine zr_if_eq hO (zR_B _) (tgt := 25) dX3_seek_10 rfl (fun c10 => ?_) (fun c10 => ?_)
  · skip
    have c10 := zB_eq c10
    refine zr_iconst hO dX3_seek_25 ?_
    exact hj26 0 ((zB_f (by omega)).symm) h hf
  · skip
    have c10 := zB_ne c10
    refine zr_aload_n hO (hl := rfl) (j := 0) (hi := rfl) dX3_seek_13 ?_
    refine zr_iload_n hO (hl := rfl) (j := 2) (hi := rfl) dX3_seek_14 ?_
    refine zr_cVi hO zc_X3 zw_X3_167 (c_X3_isLine hI hf hg n (⟨by omega, by omega⟩)) dX3_seek_15 (zrd_of hf.1) rfl (rest := [zp r]) rfl ⟨Nat.le_of_ble_eq_true rfl, Nat.le_of_ble_eq_true rfl⟩ (Nat.le_of_ble_eq_true rfl) (Nat.le_refl _) (Nat.le_refl _) (fun x h hx => ?_)
    obtain ⟨hx, hf⟩ := hx
    have hx : x = zB (1 ≤ n ∧ n ≤ g 0) := hx
    subst hx
    refine zr_if_eq hO (zR_B _) (tgt := 25) dX3_seek_18 rfl (fun c18 => ?_) (fun c18 => ?_)
    · skip
      have c18 := zB_eq c18
      refine zr_iconst hO dX3_seek_25 ?_
      exact hj26 0 ((zB_f (by omega)).symm) h hf
    · skip
      have c18 := zB_ne c18
      refine zr_iconst hO dX3_seek_21 ?_
      refine zr_goto hO (tgt := 26) dX3_seek_22 rfl ?_
      exact hj26 1 ((zB_t (by omega)).symm) h hf
theorem c_X3_labelled {G : zG} {r : Nat} {ad : Nat → Nat} {h0 : zHp} (hI : zRI r ad) {σ : zS} {h : zHp} (hf : zRf r ad σ h0 h) {g : Nat → Int} (hg : σ.2 1 = g) {b : Nat → Int} (hb : σ.2 7 = b) {q : Int} (hq : σ.1 8 = q) (m : Int) (hm : zR m) (hq1 : 0 ≤ q) (hq2 : q ≤ 700) (hw : zwf g) : zC G yX3_labelled cX3_labelled 3 (some Jvm.ClassFile.FieldType.int) 5 109 0 0 [zp r, zi m] h (zPi (fun x h' => x = (if 0 ≤ m ∧ m ≤ q then zfd (fun n => decide (0 < m ∧ glb g n = m ∧ gha g b n (gbl g n) m)) (g 0) else 0) ∧ ∃ τ : zS, τ.1 0 = (1 - zB (0 ≤ m ∧ m ≤ q)) ∧ zCo (if 0 ≤ m ∧ m ≤ q then zuS σ 8 0 else σ) τ ∧ zRf r ad τ h0 h') zNo) := by
  refine zC.of zpn_X3 (Nat.le_of_ble_eq_true rfl) (L := [(0, zp r), (1, zi m)]) rfl (fun K hO => ?_)
  obtain ⟨w1, w2, w3⟩ := id hw
  obtain ⟨hma, hmb⟩ := hm
  refine zr_aload_n hO (hl := rfl) (j := 0) (hi := rfl) dX3_labelled_0 ?_
  refine zr_iload_n hO (hl := rfl) (j := 1) (hi := rfl) dX3_labelled_1 ?_
  refine zr_iconst hO dX3_labelled_2 ?_
  refine zr_aload_n hO (hl := rfl) (j := 0) (hi := rfl) dX3_labelled_3 ?_
  refine zs_get hO hf 8 (x := q) dX3_labelled_4 q2978 (Nat.le_of_ble_eq_true rfl) (congrArg (fun z => some (zi z)) hq) (fun ⟨r1a, r1b⟩ => ?_)
  refine zr_cSi hO zw_X3_95 (c_X3_in m 0 q (⟨by omega, by omega⟩) (⟨by omega, by omega⟩) (⟨by omega, by omega⟩)) dX3_labelled_7 rfl (rest := [zp r]) rfl ⟨Nat.le_of_ble_eq_true rfl, Nat.le_of_ble_eq_true rfl⟩ (Nat.le_of_ble_eq_true rfl) (Nat.le_refl _) (Nat.le_refl _) (fun x h hx => ?_)
  obtain ⟨hx, rfl⟩ := hx
  have hx : x = zB (0 ≤ m ∧ m ≤ q) := hx
  subst hx
  refine zr_cVi hO zc_X3 zw_X3_111 (c_X3_may hI hf (zB (0 ≤ m ∧ m ≤ q)) (zB_01 _)) dX3_labelled_10 (zrd_of hf.1) rfl (rest := []) rfl ⟨Nat.le_of_ble_eq_true rfl, Nat.le_of_ble_eq_true rfl⟩ (Nat.le_of_ble_eq_true rfl) (Nat.le_refl _) (Nat.le_refl _) (fun x h hx => ?_)
  obtain ⟨hx, hf⟩ := hx
  have hx : x = (zB (0 ≤ m ∧ m ≤ q)) := hx
  subst hx
  have hf : zRf r ad (zuS σ 0 (1 - (zB (0 ≤ m ∧ m ≤ q)))) h0 h := hf
  refine zr_if_ne hO (zR_B _) (tgt := 18) dX3_labelled_13 rfl (fun c13 => ?_) (fun c13 => ?_)
  · skip
    have c13 := zB_ne c13
    refine zr_aload_n hO (hl := rfl) (j := 0) (hi := rfl) dX3_labelled_18 ?_
    refine zr_iconst hO dX3_labelled_19 ?_
    refine zs_put hO hI hf 8 dX3_labelled_20 q2978 (Nat.le_of_ble_eq_true rfl) rfl rfl rfl ⟨by omega, by omega⟩ (fun h hf => ?_)
    refine zr_iconst hO dX3_labelled_23 ?_
    refine zr_istore_n hO (L' := [(2, zi 1), (0, zp r), (1, zi m)]) (hi := rfl) dX3_labelled_24 (Nat.le_of_ble_eq_true rfl) rfl ?_
    have hl25 : ∀ (n9 : Nat) (n : Int), (g 0 + 1 - n).toNat = n9 → ∀ (i1 : 1 ≤ n) (i2 : n ≤ g 0 + 1) (i3 : ∀ k, 1 ≤ k → k < n → ¬ (0 < m ∧ glb g k = m ∧ gha g b k (gbl g k) m)) (h : zHp) (hf : zRf r ad (zuS (zuS σ 0 (1 - (zB (0 ≤ m ∧ m ≤ q)))) 8 0) h0 h), zV G K 0 0 h 25 [(0, zp r), (1, zi m), (2, zi n)] [] := by
      intro n9
      induction n9 using Nat.strongRecOn with
      | _ n9 ih25 =>
      intro n hn25 i1 i2 i3 h hf
      refine zr_iload_n hO (hl := rfl) (j := 2) (hi := rfl) dX3_labelled_25 ?_
      refine zr_aload_n hO (hl := rfl) (j := 0) (hi := rfl) dX3_labelled_26 ?_
      refine zs_arr hO hf 1 dX3_labelled_27 q2971 (Nat.le_of_ble_eq_true rfl) rfl ?_
      refine zr_iconst hO dX3_labelled_30 ?_
      refine zs_ild hO hf 1 (f := g) (n := 2195) (j := 0) dX3_labelled_31 rfl rfl rfl hg (by omega) (by omega) rfl (fun ⟨r3a, r3b⟩ => ?_)
      refine zr_icmp_gt hO ⟨by omega, by omega⟩ ⟨by omega, by omega⟩ (tgt := 70) dX3_labelled_32 rfl (fun c32 => ?_) (fun c32 => ?_)
      · skip
        refine zr_iconst hO dX3_labelled_70 ?_
        exact zr_ireturn hO dX3_labelled_71 ⟨(by rw [if_pos c13]; exact (zfd_miss (fun k a c => decide_eq_false (i3 k a (by omega)))).symm), (zuS (zuS σ 0 (1 - (zB (0 ≤ m ∧ m ≤ q)))) 8 0), (rfl), (by rw [if_pos c13]; exact (((zCo.refl σ).uS (k := 0) (by decide) (1 - (zB (0 ≤ m ∧ m ≤ q)))).cS 8 0)), hf⟩
      · skip
        have w3n := w3 n (by omega) (by omega)
        have gbo := gbl_in g n w3n.1
        have glbn := glb_in g n
        refine zr_iload_n hO (hl := rfl) (j := 1) (hi := rfl) dX3_labelled_35 ?_
        refine zr_if_le hO ⟨by omega, by omega⟩ (tgt := 64) dX3_labelled_36 rfl (fun c36 => ?_) (fun c36 => ?_)
        · skip
          refine zr_iinc hO (L' := [(2, zi (n + 1)), (0, zp r), (1, zi m)]) (j := 2) dX3_labelled_64 rfl (Nat.le_of_ble_eq_true rfl) rfl ?_
          refine zr_goto hO (tgt := 25) dX3_labelled_67 rfl ?_
          refine zV.loc [1, 2, 0] rfl ?_
          exact ih25 _ (by omega) (n + 1) rfl (by omega) (by omega) (fun k a c => by by_cases e : k = n; (rw [e]; intro q; first | exact c59 q.2.2 | omega); exact i3 k a (by omega)) h hf
        · skip
          refine zr_aload_n hO (hl := rfl) (j := 0) (hi := rfl) dX3_labelled_39 ?_
          refine zr_iload_n hO (hl := rfl) (j := 2) (hi := rfl) dX3_labelled_40 ?_
          refine zr_cVi hO zc_X3 zw_X3_218 (c_X3_labelOf hI hf hg n (by omega) (by omega) (by omega) (by omega)) dX3_labelled_41 (zrd_of hf.1) rfl (rest := []) rfl ⟨Nat.le_of_ble_eq_true rfl, Nat.le_of_ble_eq_true rfl⟩ (Nat.le_of_ble_eq_true rfl) (Nat.le_refl _) (Nat.le_refl _) (fun x h hx => ?_)
          obtain ⟨hx, hf⟩ := hx
          have hx : x = glb g n := hx
          subst hx
          refine zr_iload_n hO (hl := rfl) (j := 1) (hi := rfl) dX3_labelled_44 ?_
          refine zr_icmp_ne hO ⟨by omega, by omega⟩ ⟨by omega, by omega⟩ (tgt := 64) dX3_labelled_45 rfl (fun c45 => ?_) (fun c45 => ?_)
          · skip
            refine zr_iinc hO (L' := [(2, zi (n + 1)), (0, zp r), (1, zi m)]) (j := 2) dX3_labelled_64 rfl (Nat.le_of_ble_eq_true rfl) rfl ?_
            refine zr_goto hO (tgt := 25) dX3_labelled_67 rfl ?_
            refine zV.loc [1, 2, 0] rfl ?_
            exact ih25 _ (by omega) (n + 1) rfl (by omega) (by omega) (fun k a c => by by_cases e : k = n; (rw [e]; intro q; first | exact c59 q.2.2 | omega); exact i3 k a (by omega)) h hf
          · skip
            refine zr_aload_n hO (hl := rfl) (j := 0) (hi := rfl) dX3_labelled_48 ?_
            refine zr_iload_n hO (hl := rfl) (j := 2) (hi := rfl) dX3_labelled_49 ?_
            refine zr_aload_n hO (hl := rfl) (j := 0) (hi := rfl) dX3_labelled_50 ?_
            refine zr_iload_n hO (hl := rfl) (j := 2) (hi := rfl) dX3_labelled_51 ?_
            refine zr_cVi hO zc_X3 zw_X3_189 (c_X3_blanks hI hf hg n (by omega) (by omega) (by omega) (by omega)) dX3_labelled_52 (zrd_of hf.1) rfl (rest := [zi n, zp r]) rfl ⟨Nat.le_of_ble_eq_true rfl, Nat.le_of_ble_eq_true rfl⟩ (Nat.le_of_ble_eq_true rfl) (Nat.le_refl _) (Nat.le_refl _) (fun x h hx => ?_)
            obtain ⟨hx, ⟨r5a, r5b⟩, hf⟩ := hx
            have hx : x = gbl g n := hx
            subst hx
            refine zr_iload_n hO (hl := rfl) (j := 1) (hi := rfl) dX3_labelled_55 ?_
            refine zr_cVi hO zc_X3 zw_X3_209 (c_X3_hasAt hI hf hg hb n (gbl g n) m (by omega) (by omega) (by omega) (by omega) (by omega) (by omega) (by omega) (by omega)) dX3_labelled_56 (zrd_of hf.1) rfl (rest := []) rfl ⟨Nat.le_of_ble_eq_true rfl, Nat.le_of_ble_eq_true rfl⟩ (Nat.le_of_ble_eq_true rfl) (Nat.le_refl _) (Nat.le_refl _) (fun x h hx => ?_)
            obtain ⟨hx, hf⟩ := hx
            have hx : x = zB (gha g b n (gbl g n) m) := hx
            subst hx
            refine zr_if_eq hO (zR_B _) (tgt := 64) dX3_labelled_59 rfl (fun c59 => ?_) (fun c59 => ?_)
            · skip
              have c59 := zB_eq c59
              refine zr_iinc hO (L' := [(2, zi (n + 1)), (0, zp r), (1, zi m)]) (j := 2) dX3_labelled_64 rfl (Nat.le_of_ble_eq_true rfl) rfl ?_
              refine zr_goto hO (tgt := 25) dX3_labelled_67 rfl ?_
              refine zV.loc [1, 2, 0] rfl ?_
              exact ih25 _ (by omega) (n + 1) rfl (by omega) (by omega) (fun k a c => by by_cases e : k = n; (rw [e]; intro q; first | exact c59 q.2.2 | omega); exact i3 k a (by omega)) h hf
            · skip
              have c59 := zB_ne c59
              refine zr_iload_n hO (hl := rfl) (j := 2) (hi := rfl) dX3_labelled_62 ?_
              exact zr_ireturn hO dX3_labelled_63 ⟨(by rw [if_pos c13]; exact (zfd_hit i1 (by omega) (decide_eq_true ⟨by omega, by omega, c59⟩) (fun k a c => decide_eq_false (i3 k a c))).symm), (zuS (zuS σ 0 (1 - (zB (0 ≤ m ∧ m ≤ q)))) 8 0), (rfl), (by rw [if_pos c13]; exact (((zCo.refl σ).uS (k := 0) (by decide) (1 - (zB (0 ≤ m ∧ m ≤ q)))).cS 8 0)), hf⟩
    refine zV.loc [1, 2, 0] rfl ?_
    exact hl25 _ 1 rfl (by omega) (by omega) (fun k a c => by omega) h hf
  · skip
    have c13 := zB_eq c13
    refine zr_iconst hO dX3_labelled_16 ?_
    exact zr_ireturn hO dX3_labelled_17 ⟨(by rw [if_neg c13]), (zuS σ 0 (1 - (zB (0 ≤ m ∧ m ≤ q)))), (rfl), (by rw [if_neg c13]; exact ((zCo.refl σ).uS (k := 0) (by decide) (1 - (zB (0 ≤ m ∧ m ≤ q))))), hf⟩
theorem c_X3_labelLength {G : zG} {r : Nat} {ad : Nat → Nat} {h0 : zHp} (hI : zRI r ad) {σ : zS} {h : zHp} (hf : zRf r ad σ h0 h) {g : Nat → Int} (hg : σ.2 1 = g) (n : Int) (hn : zR n) (hw : zwf g) : zC G yX3_labelLength cX3_labelLength 2 (some Jvm.ClassFile.FieldType.int) 5 109 0 0 [zp r, zi n] h (zPi (fun x h' => x = (if 1 ≤ n ∧ n ≤ g 0 then glb g n else 0) ∧ ∃ τ : zS, τ.1 0 = (1 - zB (1 ≤ n ∧ n ≤ g 0)) ∧ zCo σ τ ∧ zRf r ad τ h0 h') zNo) := by
  refine zC.of zpn_X3 (Nat.le_of_ble_eq_true rfl) (L := [(0, zp r), (1, zi n)]) rfl (fun K hO => ?_)
  obtain ⟨w1, w2, w3⟩ := id hw
  obtain ⟨hna, hnb⟩ := hn
  refine zr_aload_n hO (hl := rfl) (j := 0) (hi := rfl) dX3_labelLength_0 ?_
  refine zr_aload_n hO (hl := rfl) (j := 0) (hi := rfl) dX3_labelLength_1 ?_
  refine zr_iload_n hO (hl := rfl) (j := 1) (hi := rfl) dX3_labelLength_2 ?_
  refine zr_cVi hO zc_X3 zw_X3_167 (c_X3_isLine hI hf hg n (⟨by omega, by omega⟩)) dX3_labelLength_3 (zrd_of hf.1) rfl (rest := [zp r]) rfl ⟨Nat.le_of_ble_eq_true rfl, Nat.le_of_ble_eq_true rfl⟩ (Nat.le_of_ble_eq_true rfl) (Nat.le_refl _) (Nat.le_refl _) (fun x h hx => ?_)
  obtain ⟨hx, hf⟩ := hx
  have hx : x = zB (1 ≤ n ∧ n ≤ g 0) := hx
  subst hx
  refine zr_cVi hO zc_X3 zw_X3_111 (c_X3_may hI hf (zB (1 ≤ n ∧ n ≤ g 0)) (zB_01 _)) dX3_labelLength_6 (zrd_of hf.1) rfl (rest := []) rfl ⟨Nat.le_of_ble_eq_true rfl, Nat.le_of_ble_eq_true rfl⟩ (Nat.le_of_ble_eq_true rfl) (Nat.le_refl _) (Nat.le_refl _) (fun x h hx => ?_)
  obtain ⟨hx, hf⟩ := hx
  have hx : x = (zB (1 ≤ n ∧ n ≤ g 0)) := hx
  subst hx
  have hf : zRf r ad (zuS σ 0 (1 - (zB (1 ≤ n ∧ n ≤ g 0)))) h0 h := hf
  refine zr_if_eq hO (zR_B _) (tgt := 20) dX3_labelLength_9 rfl (fun c9 => ?_) (fun c9 => ?_)
  · skip
    have c9 := zB_eq c9
    refine zr_iconst hO dX3_labelLength_20 ?_
    exact zr_ireturn hO dX3_labelLength_21 ⟨(by rw [if_neg c9]), (zuS σ 0 (1 - (zB (1 ≤ n ∧ n ≤ g 0)))), (rfl), ((zCo.refl σ).uS (k := 0) (by decide) (1 - (zB (1 ≤ n ∧ n ≤ g 0)))), hf⟩
  · skip
    have c9 := zB_ne c9
    have w3n := w3 n (by omega) (by omega)
    refine zr_aload_n hO (hl := rfl) (j := 0) (hi := rfl) dX3_labelLength_12 ?_
    refine zr_iload_n hO (hl := rfl) (j := 1) (hi := rfl) dX3_labelLength_13 ?_
    refine zr_cVi hO zc_X3 zw_X3_218 (c_X3_labelOf hI hf hg n (by omega) (by omega) (by omega) (by omega)) dX3_labelLength_14 (zrd_of hf.1) rfl (rest := []) rfl ⟨Nat.le_of_ble_eq_true rfl, Nat.le_of_ble_eq_true rfl⟩ (Nat.le_of_ble_eq_true rfl) (Nat.le_refl _) (Nat.le_refl _) (fun x h hx => ?_)
    obtain ⟨hx, hf⟩ := hx
    have hx : x = glb g n := hx
    subst hx
    refine zr_goto hO (tgt := 21) dX3_labelLength_17 rfl ?_
    exact zr_ireturn hO dX3_labelLength_21 ⟨(by rw [if_pos c9]), (zuS σ 0 (1 - (zB (1 ≤ n ∧ n ≤ g 0)))), (rfl), ((zCo.refl σ).uS (k := 0) (by decide) (1 - (zB (1 ≤ n ∧ n ≤ g 0)))), hf⟩
theorem zw_X3_257 : zYw RX3 RX3 257 yX3_targetOf cX3_targetOf 3 (some Jvm.ClassFile.FieldType.int) 1 := ⟨q3340, q3342, qs79, q116, q3343, rfl, ⟨by decide +kernel, by decide +kernel, by decide +kernel⟩⟩
theorem c_X3_target {G : zG} {r : Nat} {ad : Nat → Nat} {h0 : zHp} (hI : zRI r ad) {σ : zS} {h : zHp} (hf : zRf r ad σ h0 h) {g : Nat → Int} (hg : σ.2 1 = g) (n : Int) (hn : zR n) (hw : zwf g) : zC G yX3_target cX3_target 2 (some Jvm.ClassFile.FieldType.int) 7 157 0 0 [zp r, zi n] h (zPi (fun x h' => x = (if 1 ≤ n ∧ n ≤ g 0 then gtg g n else 0) ∧ ∃ τ : zS, τ.1 0 = (1 - zB (1 ≤ n ∧ n ≤ g 0)) ∧ zCo σ τ ∧ zRf r ad τ h0 h') zNo) := by
  refine zC.of zpn_X3 (Nat.le_of_ble_eq_true rfl) (L := [(0, zp r), (1, zi n)]) rfl (fun K hO => ?_)
  obtain ⟨w1, w2, w3⟩ := id hw
  obtain ⟨hna, hnb⟩ := hn
  refine zr_aload_n hO (hl := rfl) (j := 0) (hi := rfl) dX3_target_0 ?_
  refine zr_aload_n hO (hl := rfl) (j := 0) (hi := rfl) dX3_target_1 ?_
  refine zr_iload_n hO (hl := rfl) (j := 1) (hi := rfl) dX3_target_2 ?_
  refine zr_cVi hO zc_X3 zw_X3_167 (c_X3_isLine hI hf hg n (⟨by omega, by omega⟩)) dX3_target_3 (zrd_of hf.1) rfl (rest := [zp r]) rfl ⟨Nat.le_of_ble_eq_true rfl, Nat.le_of_ble_eq_true rfl⟩ (Nat.le_of_ble_eq_true rfl) (Nat.le_refl _) (Nat.le_refl _) (fun x h hx => ?_)
  obtain ⟨hx, hf⟩ := hx
  have hx : x = zB (1 ≤ n ∧ n ≤ g 0) := hx
  subst hx
  refine zr_cVi hO zc_X3 zw_X3_111 (c_X3_may hI hf (zB (1 ≤ n ∧ n ≤ g 0)) (zB_01 _)) dX3_target_6 (zrd_of hf.1) rfl (rest := []) rfl ⟨Nat.le_of_ble_eq_true rfl, Nat.le_of_ble_eq_true rfl⟩ (Nat.le_of_ble_eq_true rfl) (Nat.le_refl _) (Nat.le_refl _) (fun x h hx => ?_)
  obtain ⟨hx, hf⟩ := hx
  have hx : x = (zB (1 ≤ n ∧ n ≤ g 0)) := hx
  subst hx
  have hf : zRf r ad (zuS σ 0 (1 - (zB (1 ≤ n ∧ n ≤ g 0)))) h0 h := hf
  refine zr_if_eq hO (zR_B _) (tgt := 20) dX3_target_9 rfl (fun c9 => ?_) (fun c9 => ?_)
  · skip
    have c9 := zB_eq c9
    refine zr_iconst hO dX3_target_20 ?_
    exact zr_ireturn hO dX3_target_21 ⟨(by rw [if_neg c9]), (zuS σ 0 (1 - (zB (1 ≤ n ∧ n ≤ g 0)))), (rfl), ((zCo.refl σ).uS (k := 0) (by decide) (1 - (zB (1 ≤ n ∧ n ≤ g 0)))), hf⟩
  · skip
    have c9 := zB_ne c9
    refine zr_aload_n hO (hl := rfl) (j := 0) (hi := rfl) dX3_target_12 ?_
    refine zr_iload_n hO (hl := rfl) (j := 1) (hi := rfl) dX3_target_13 ?_
    refine zr_cVi hO zc_X3 zw_X3_257 (c_X3_targetOf hI hf hg n (by omega) (by omega) (hw)) dX3_target_14 (zrd_of hf.1) rfl (rest := []) rfl ⟨Nat.le_of_ble_eq_true rfl, Nat.le_of_ble_eq_true rfl⟩ (Nat.le_of_ble_eq_true rfl) (Nat.le_refl _) (Nat.le_refl _) (fun x h hx => ?_)
    obtain ⟨hx, hf⟩ := hx
    have hx : x = gtg g n := hx
    subst hx
    refine zr_goto hO (tgt := 21) dX3_target_17 rfl ?_
    exact zr_ireturn hO dX3_target_21 ⟨(by rw [if_pos c9]), (zuS σ 0 (1 - (zB (1 ≤ n ∧ n ≤ g 0)))), (rfl), ((zCo.refl σ).uS (k := 0) (by decide) (1 - (zB (1 ≤ n ∧ n ≤ g 0)))), hf⟩
theorem c_X3_referrers {G : zG} {r : Nat} {ad : Nat → Nat} {h0 : zHp} (hI : zRI r ad) {σ : zS} {h : zHp} (hf : zRf r ad σ h0 h) {g : Nat → Int} (hg : σ.2 1 = g) (n : Int) (hn : zR n) (hw : zwf g) : zC G yX3_referrers cX3_referrers 4 (some Jvm.ClassFile.FieldType.int) 7 157 0 0 [zp r, zi n] h (zPi (fun x h' => x = (if 1 ≤ n ∧ n ≤ g 0 then grs g n else 0) ∧ ∃ τ : zS, τ.1 0 = (1 - zB (1 ≤ n ∧ n ≤ g 0)) ∧ zCo σ τ ∧ zRf r ad τ h0 h') zNo) := by
  refine zC.of zpn_X3 (Nat.le_of_ble_eq_true rfl) (L := [(0, zp r), (1, zi n)]) rfl (fun K hO => ?_)
  obtain ⟨w1, w2, w3⟩ := id hw
  obtain ⟨hna, hnb⟩ := hn
  refine zr_aload_n hO (hl := rfl) (j := 0) (hi := rfl) dX3_referrers_0 ?_
  refine zr_aload_n hO (hl := rfl) (j := 0) (hi := rfl) dX3_referrers_1 ?_
  refine zr_iload_n hO (hl := rfl) (j := 1) (hi := rfl) dX3_referrers_2 ?_
  refine zr_cVi hO zc_X3 zw_X3_167 (c_X3_isLine hI hf hg n (⟨by omega, by omega⟩)) dX3_referrers_3 (zrd_of hf.1) rfl (rest := [zp r]) rfl ⟨Nat.le_of_ble_eq_true rfl, Nat.le_of_ble_eq_true rfl⟩ (Nat.le_of_ble_eq_true rfl) (Nat.le_refl _) (Nat.le_refl _) (fun x h hx => ?_)
  obtain ⟨hx, hf⟩ := hx
  have hx : x = zB (1 ≤ n ∧ n ≤ g 0) := hx
  subst hx
  refine zr_cVi hO zc_X3 zw_X3_111 (c_X3_may hI hf (zB (1 ≤ n ∧ n ≤ g 0)) (zB_01 _)) dX3_referrers_6 (zrd_of hf.1) rfl (rest := []) rfl ⟨Nat.le_of_ble_eq_true rfl, Nat.le_of_ble_eq_true rfl⟩ (Nat.le_of_ble_eq_true rfl) (Nat.le_refl _) (Nat.le_refl _) (fun x h hx => ?_)
  obtain ⟨hx, hf⟩ := hx
  have hx : x = (zB (1 ≤ n ∧ n ≤ g 0)) := hx
  subst hx
  have hf : zRf r ad (zuS σ 0 (1 - (zB (1 ≤ n ∧ n ≤ g 0)))) h0 h := hf
  refine zr_if_ne hO (zR_B _) (tgt := 14) dX3_referrers_9 rfl (fun c9 => ?_) (fun c9 => ?_)
  · skip
    have c9 := zB_ne c9
    refine zr_iconst hO dX3_referrers_14 ?_
    refine zr_istore_n hO (L' := [(2, zi 0), (0, zp r), (1, zi n)]) (hi := rfl) dX3_referrers_15 (Nat.le_of_ble_eq_true rfl) rfl ?_
    refine zr_iconst hO dX3_referrers_16 ?_
    refine zr_istore_n hO (L' := [(3, zi 1), (2, zi 0), (0, zp r), (1, zi n)]) (hi := rfl) dX3_referrers_17 (Nat.le_of_ble_eq_true rfl) rfl ?_
    have hl18 : ∀ (n9 : Nat) (o a : Int), (g 0 + 1 - o).toNat = n9 → ∀ (i1 : 1 ≤ o) (i2 : o ≤ g 0 + 1) (i3 : a = zsn (fun o => zB (gtg g o = n)) (o - 1).toNat) (h : zHp) (hf : zRf r ad (zuS σ 0 (1 - (zB (1 ≤ n ∧ n ≤ g 0)))) h0 h), zV G K 0 0 h 18 [(0, zp r), (1, zi n), (2, zi a), (3, zi o)] [] := by
      intro n9
      induction n9 using Nat.strongRecOn with
      | _ n9 ih18 =>
      intro o a hn18 i1 i2 i3 h hf
      refine zr_iload_n hO (hl := rfl) (j := 3) (hi := rfl) dX3_referrers_18 ?_
      refine zr_aload_n hO (hl := rfl) (j := 0) (hi := rfl) dX3_referrers_19 ?_
      refine zs_arr hO hf 1 dX3_referrers_20 q2971 (Nat.le_of_ble_eq_true rfl) rfl ?_
      refine zr_iconst hO dX3_referrers_23 ?_
      refine zs_ild hO hf 1 (f := g) (n := 2195) (j := 0) dX3_referrers_24 rfl rfl rfl hg (by omega) (by omega) rfl (fun ⟨r3a, r3b⟩ => ?_)
      refine zr_icmp_gt hO ⟨by omega, by omega⟩ ⟨by omega, by omega⟩ (tgt := 51) dX3_referrers_25 rfl (fun c25 => ?_) (fun c25 => ?_)
      · skip
        refine zr_iload_n hO (hl := rfl) (j := 2) (hi := rfl) dX3_referrers_51 ?_
        exact zr_ireturn hO dX3_referrers_52 ⟨(by rw [if_pos c9, i3, show o - 1 = g 0 by omega]; rfl), (zuS σ 0 (1 - (zB (1 ≤ n ∧ n ≤ g 0)))), (rfl), ((zCo.refl σ).uS (k := 0) (by decide) (1 - (zB (1 ≤ n ∧ n ≤ g 0)))), hf⟩
      · skip
        have gto9 := gtg_in (g := g) o
        refine zr_iload_n hO (hl := rfl) (j := 2) (hi := rfl) dX3_referrers_28 ?_
        refine zr_aload_n hO (hl := rfl) (j := 0) (hi := rfl) dX3_referrers_29 ?_
        refine zr_iload_n hO (hl := rfl) (j := 3) (hi := rfl) dX3_referrers_30 ?_
        refine zr_cVi hO zc_X3 zw_X3_257 (c_X3_targetOf hI hf hg o (by omega) (by omega) (hw)) dX3_referrers_31 (zrd_of hf.1) rfl (rest := [zi a]) rfl ⟨Nat.le_of_ble_eq_true rfl, Nat.le_of_ble_eq_true rfl⟩ (Nat.le_of_ble_eq_true rfl) (Nat.le_refl _) (Nat.le_refl _) (fun x h hx => ?_)
        obtain ⟨hx, hf⟩ := hx
        have hx : x = gtg g o := hx
        subst hx
        refine zr_iload_n hO (hl := rfl) (j := 1) (hi := rfl) dX3_referrers_34 ?_
        refine zr_icmp_ne hO ⟨by omega, by omega⟩ ⟨by omega, by omega⟩ (tgt := 42) dX3_referrers_35 rfl (fun c35 => ?_) (fun c35 => ?_)
        · skip
          refine zr_iconst hO dX3_referrers_42 ?_
          refine zr_iadd hO dX3_referrers_43 ?_
          refine zr_istore_n hO (L' := [(2, zi (a + 0)), (0, zp r), (1, zi n), (3, zi o)]) (hi := rfl) dX3_referrers_44 (Nat.le_of_ble_eq_true rfl) rfl ?_
          refine zr_iinc hO (L' := [(3, zi (o + 1)), (2, zi (a + 0)), (0, zp r), (1, zi n)]) (j := 3) dX3_referrers_45 rfl (Nat.le_of_ble_eq_true rfl) rfl ?_
          refine zr_goto hO (tgt := 18) dX3_referrers_48 rfl ?_
          refine zV.loc [2, 3, 1, 0] rfl ?_
          exact ih18 _ (by omega) (o + 1) (a + 0) rfl (by omega) (by omega) (by rw [show o + 1 - 1 = o by omega, zsn_p _ i1, ← i3, zB_f (by omega)]) h hf
        · skip
          refine zr_iconst hO dX3_referrers_38 ?_
          refine zr_goto hO (tgt := 43) dX3_referrers_39 rfl ?_
          refine zr_iadd hO dX3_referrers_43 ?_
          refine zr_istore_n hO (L' := [(2, zi (a + 1)), (0, zp r), (1, zi n), (3, zi o)]) (hi := rfl) dX3_referrers_44 (Nat.le_of_ble_eq_true rfl) rfl ?_
          refine zr_iinc hO (L' := [(3, zi (o + 1)), (2, zi (a + 1)), (0, zp r), (1, zi n)]) (j := 3) dX3_referrers_45 rfl (Nat.le_of_ble_eq_true rfl) rfl ?_
          refine zr_goto hO (tgt := 18) dX3_referrers_48 rfl ?_
          refine zV.loc [2, 3, 1, 0] rfl ?_
          exact ih18 _ (by omega) (o + 1) (a + 1) rfl (by omega) (by omega) (by rw [show o + 1 - 1 = o by omega, zsn_p _ i1, ← i3, zB_t (by omega)]) h hf
    refine zV.loc [2, 3, 1, 0] rfl ?_
    exact hl18 _ 1 0 rfl (by omega) (by omega) (rfl) h hf
  · skip
    have c9 := zB_eq c9
    refine zr_iconst hO dX3_referrers_12 ?_
    exact zr_ireturn hO dX3_referrers_13 ⟨(by rw [if_neg c9]), (zuS σ 0 (1 - (zB (1 ≤ n ∧ n ≤ g 0)))), (rfl), ((zCo.refl σ).uS (k := 0) (by decide) (1 - (zB (1 ≤ n ∧ n ≤ g 0)))), hf⟩
theorem c_X3_referrer {G : zG} {r : Nat} {ad : Nat → Nat} {h0 : zHp} (hI : zRI r ad) {σ : zS} {h : zHp} (hf : zRf r ad σ h0 h) {g : Nat → Int} (hg : σ.2 1 = g) (n : Int) (u : Int) (hn : zR n) (hx9 : zR u) (hw : zwf g) : zC G yX3_referrer cX3_referrer 5 (some Jvm.ClassFile.FieldType.int) 7 157 0 0 [zp r, zi n, zi u] h (zPi (fun x h' => x = (if grr g n u = -1 then 0 else grr g n u) ∧ ∃ τ : zS, τ.1 0 = (if grr g n u = -1 then 1 else 0) ∧ zCo σ τ ∧ zRf r ad τ h0 h') zNo) := by
  refine zC.of zpn_X3 (Nat.le_of_ble_eq_true rfl) (L := [(0, zp r), (1, zi n), (2, zi u)]) rfl (fun K hO => ?_)
  obtain ⟨w1, w2, w3⟩ := id hw
  obtain ⟨hna, hnb⟩ := hn
  obtain ⟨hx9a, hx9b⟩ := hx9
  refine zr_iload_n hO (hl := rfl) (j := 2) (hi := rfl) dX3_referrer_0 ?_
  refine zr_istore_n hO (L' := [(3, zi u), (0, zp r), (1, zi n), (2, zi u)]) (hi := rfl) dX3_referrer_1 (Nat.le_of_ble_eq_true rfl) rfl ?_
  refine zr_iconst hO dX3_referrer_2 ?_
  refine zr_istore hO (L' := [(4, zi 1), (3, zi u), (0, zp r), (1, zi n), (2, zi u)]) dX3_referrer_3 (Nat.le_of_ble_eq_true rfl) rfl ?_
  have hl5 : ∀ (n9 : Nat) (o y : Int), (g 0 + 1 - o).toNat = n9 → ∀ (i1 : 1 ≤ o) (i2 : o ≤ g 0 + 1) (i3 : grr g n u = if 1 ≤ n ∧ n ≤ g 0 then znt (fun o => decide (gtg g o = n)) (g 0 + 1 - o).toNat o y else -1) (i4 : -1 ≤ y ∨ o = 1) (i5 : zR y) (h : zHp) (hf : zRf r ad σ h0 h), zV G K 0 0 h 5 [(0, zp r), (1, zi n), (2, zi u), (3, zi y), (4, zi o)] [] := by
    intro n9
    induction n9 using Nat.strongRecOn with
    | _ n9 ih5 =>
    intro o y hn5 i1 i2 i3 i4 i5 h hf
    obtain ⟨i5a, i5b⟩ := i5
    refine zr_iload hO (hl := rfl) (j := 4) dX3_referrer_5 ?_
    refine zr_aload_n hO (hl := rfl) (j := 0) (hi := rfl) dX3_referrer_7 ?_
    refine zs_arr hO hf 1 dX3_referrer_8 q2971 (Nat.le_of_ble_eq_true rfl) rfl ?_
    refine zr_iconst hO dX3_referrer_11 ?_
    refine zs_ild hO hf 1 (f := g) (n := 2195) (j := 0) dX3_referrer_12 rfl rfl rfl hg (by omega) (by omega) rfl (fun ⟨r1a, r1b⟩ => ?_)
    refine zr_icmp_gt hO ⟨by omega, by omega⟩ ⟨by omega, by omega⟩ (tgt := 62) dX3_referrer_13 rfl (fun c13 => ?_) (fun c13 => ?_)
    · skip
      have e9 : grr g n u = -1 := by rw [i3]; first | rw [if_neg c21] | (rw [if_pos c21, znt_neg _ _ _ c25]) | (split <;> first | rfl | (rw [show (g 0 + 1 - o).toNat = 0 by omega]; rfl))
      refine zr_aload_n hO (hl := rfl) (j := 0) (hi := rfl) dX3_referrer_62 ?_
      refine zr_iconst hO dX3_referrer_63 ?_
      refine zs_put hO hI hf 0 dX3_referrer_64 q2970 (Nat.le_of_ble_eq_true rfl) rfl rfl rfl ⟨by omega, by omega⟩ (fun h hf => ?_)
      refine zr_iconst hO dX3_referrer_67 ?_
      exact zr_ireturn hO dX3_referrer_68 ⟨(by rw [e9, if_pos rfl]), (zuS σ 0 1), (by rw [e9]; first | rw [if_pos rfl]; exact rfl | rw [if_neg (by omega)]; exact rfl), ((zCo.refl σ).uS (k := 0) (by decide) 1), hf⟩
    · skip
      refine zr_aload_n hO (hl := rfl) (j := 0) (hi := rfl) dX3_referrer_16 ?_
      refine zr_iload_n hO (hl := rfl) (j := 1) (hi := rfl) dX3_referrer_17 ?_
      refine zr_cVi hO zc_X3 zw_X3_167 (c_X3_isLine hI hf hg n (⟨by omega, by omega⟩)) dX3_referrer_18 (zrd_of hf.1) rfl (rest := []) rfl ⟨Nat.le_of_ble_eq_true rfl, Nat.le_of_ble_eq_true rfl⟩ (Nat.le_of_ble_eq_true rfl) (Nat.le_refl _) (Nat.le_refl _) (fun x h hx => ?_)
      obtain ⟨hx, hf⟩ := hx
      have hx : x = zB (1 ≤ n ∧ n ≤ g 0) := hx
      subst hx
      refine zr_if_eq hO (zR_B _) (tgt := 62) dX3_referrer_21 rfl (fun c21 => ?_) (fun c21 => ?_)
      · skip
        have c21 := zB_eq c21
        have e9 : grr g n u = -1 := by rw [i3]; first | rw [if_neg c21] | (rw [if_pos c21, znt_neg _ _ _ c25]) | (split <;> first | rfl | (rw [show (g 0 + 1 - o).toNat = 0 by omega]; rfl))
        refine zr_aload_n hO (hl := rfl) (j := 0) (hi := rfl) dX3_referrer_62 ?_
        refine zr_iconst hO dX3_referrer_63 ?_
        refine zs_put hO hI hf 0 dX3_referrer_64 q2970 (Nat.le_of_ble_eq_true rfl) rfl rfl rfl ⟨by omega, by omega⟩ (fun h hf => ?_)
        refine zr_iconst hO dX3_referrer_67 ?_
        exact zr_ireturn hO dX3_referrer_68 ⟨(by rw [e9, if_pos rfl]), (zuS σ 0 1), (by rw [e9]; first | rw [if_pos rfl]; exact rfl | rw [if_neg (by omega)]; exact rfl), ((zCo.refl σ).uS (k := 0) (by decide) 1), hf⟩
      · skip
        have c21 := zB_ne c21
        refine zr_iload_n hO (hl := rfl) (j := 3) (hi := rfl) dX3_referrer_24 ?_
        refine zr_if_lt hO ⟨by omega, by omega⟩ (tgt := 62) dX3_referrer_25 rfl (fun c25 => ?_) (fun c25 => ?_)
        · skip
          have e9 : grr g n u = -1 := by rw [i3]; first | rw [if_neg c21] | (rw [if_pos c21, znt_neg _ _ _ c25]) | (split <;> first | rfl | (rw [show (g 0 + 1 - o).toNat = 0 by omega]; rfl))
          refine zr_aload_n hO (hl := rfl) (j := 0) (hi := rfl) dX3_referrer_62 ?_
          refine zr_iconst hO dX3_referrer_63 ?_
          refine zs_put hO hI hf 0 dX3_referrer_64 q2970 (Nat.le_of_ble_eq_true rfl) rfl rfl rfl ⟨by omega, by omega⟩ (fun h hf => ?_)
          refine zr_iconst hO dX3_referrer_67 ?_
          exact zr_ireturn hO dX3_referrer_68 ⟨(by rw [e9, if_pos rfl]), (zuS σ 0 1), (by rw [e9]; first | rw [if_pos rfl]; exact rfl | rw [if_neg (by omega)]; exact rfl), ((zCo.refl σ).uS (k := 0) (by decide) 1), hf⟩
        · skip
          have gto9 := gtg_in (g := g) o
          refine zr_aload_n hO (hl := rfl) (j := 0) (hi := rfl) dX3_referrer_28 ?_
          refine zr_iload hO (hl := rfl) (j := 4) dX3_referrer_29 ?_
          refine zr_cVi hO zc_X3 zw_X3_257 (c_X3_targetOf hI hf hg o (by omega) (by omega) (hw)) dX3_referrer_31 (zrd_of hf.1) rfl (rest := []) rfl ⟨Nat.le_of_ble_eq_true rfl, Nat.le_of_ble_eq_true rfl⟩ (Nat.le_of_ble_eq_true rfl) (Nat.le_refl _) (Nat.le_refl _) (fun x h hx => ?_)
          obtain ⟨hx, hf⟩ := hx
          have hx : x = gtg g o := hx
          subst hx
          refine zr_iload_n hO (hl := rfl) (j := 1) (hi := rfl) dX3_referrer_34 ?_
          refine zr_icmp_eq hO ⟨by omega, by omega⟩ ⟨by omega, by omega⟩ (tgt := 41) dX3_referrer_35 rfl (fun c35 => ?_) (fun c35 => ?_)
          · skip
            refine zr_iload_n hO (hl := rfl) (j := 3) (hi := rfl) dX3_referrer_41 ?_
            refine zr_if_ne hO ⟨by omega, by omega⟩ (tgt := 53) dX3_referrer_42 rfl (fun c42 => ?_) (fun c42 => ?_)
            · skip
              refine zr_iinc hO (L' := [(3, zi (y + (-1))), (0, zp r), (1, zi n), (2, zi u), (4, zi o)]) (j := 3) dX3_referrer_53 rfl (Nat.le_of_ble_eq_true rfl) rfl ?_
              refine zr_iinc hO (L' := [(4, zi (o + 1)), (3, zi (y + (-1))), (0, zp r), (1, zi n), (2, zi u)]) (j := 4) dX3_referrer_56 rfl (Nat.le_of_ble_eq_true rfl) rfl ?_
              refine zr_goto hO (tgt := 5) dX3_referrer_59 rfl ?_
              refine zV.loc [2, 3, 4, 1, 0] rfl ?_
              exact ih5 _ (by omega) (o + 1) (y + (-1)) rfl (by omega) (by omega) (by rw [i3, if_pos c21, if_pos c21, znt_s (N := g 0 + 1) (by omega) rfl]; rw [if_pos (decide_eq_true c35), if_neg (by omega), show y - 1 = y + (-1) from rfl]) (by omega) (⟨by omega, by omega⟩) h hf
            · skip
              have e9 : grr g n u = o := by rw [i3, if_pos c21, znt_s (N := g 0 + 1) (by omega) rfl, if_pos (decide_eq_true c35), if_pos c42]
              refine zr_aload_n hO (hl := rfl) (j := 0) (hi := rfl) dX3_referrer_45 ?_
              refine zr_iconst hO dX3_referrer_46 ?_
              refine zs_put hO hI hf 0 dX3_referrer_47 q2970 (Nat.le_of_ble_eq_true rfl) rfl rfl rfl ⟨by omega, by omega⟩ (fun h hf => ?_)
              refine zr_iload hO (hl := rfl) (j := 4) dX3_referrer_50 ?_
              exact zr_ireturn hO dX3_referrer_52 ⟨(by rw [e9, if_neg (by omega)]), (zuS σ 0 0), (by rw [e9]; first | rw [if_pos rfl]; exact rfl | rw [if_neg (by omega)]; exact rfl), ((zCo.refl σ).uS (k := 0) (by decide) 0), hf⟩
          · skip
            refine zr_goto hO (tgt := 56) dX3_referrer_38 rfl ?_
            refine zr_iinc hO (L' := [(4, zi (o + 1)), (0, zp r), (1, zi n), (2, zi u), (3, zi y)]) (j := 4) dX3_referrer_56 rfl (Nat.le_of_ble_eq_true rfl) rfl ?_
            refine zr_goto hO (tgt := 5) dX3_referrer_59 rfl ?_
            refine zV.loc [1, 2, 3, 4, 0] rfl ?_
            exact ih5 _ (by omega) (o + 1) y rfl (by omega) (by omega) (by rw [i3, if_pos c21, if_pos c21, znt_s (N := g 0 + 1) (by omega) rfl]; rw [if_neg (fun q => c35 (of_decide_eq_true q))]) (by omega) (⟨by omega, by omega⟩) h hf
  refine zV.loc [2, 3, 4, 1, 0] rfl ?_
  exact hl5 _ 1 u rfl (by omega) (by omega) (by unfold grr; rw [show g 0 + 1 - 1 = g 0 by omega]) (Or.inr rfl) (⟨by omega, by omega⟩) h hf
theorem c_X3_cursorLine {G : zG} {r : Nat} {ad : Nat → Nat} {h0 : zHp} (hI : zRI r ad) {σ : zS} {h : zHp} (hf : zRf r ad σ h0 h) {g : Nat → Int} (hg : σ.2 1 = g) (w1 : 0 ≤ g 0) (w2 : g 0 ≤ 80) : zC G yX3_cursorLine cX3_cursorLine 1 (some Jvm.ClassFile.FieldType.int) 3 64 0 0 [zp r] h (zPi (fun x h' => x = gcu g ∧ zRf r ad σ h0 h') zNo) := by
  refine zC.of zpn_X3 (Nat.le_of_ble_eq_true rfl) (L := [(0, zp r)]) rfl (fun K hO => ?_)
  refine zr_aload_n hO (hl := rfl) (j := 0) (hi := rfl) dX3_cursorLine_0 ?_
  refine zs_arr hO hf 1 dX3_cursorLine_1 q2971 (Nat.le_of_ble_eq_true rfl) rfl ?_
  refine zr_iconst hO dX3_cursorLine_4 ?_
  refine zs_ild hO hf 1 (f := g) (n := 2195) (j := 2) dX3_cursorLine_5 rfl rfl rfl hg (by omega) (by omega) rfl (fun ⟨r1a, r1b⟩ => ?_)
  refine zr_iconst hO dX3_cursorLine_6 ?_
  refine zr_icmp_ne hO ⟨by omega, by omega⟩ ⟨by omega, by omega⟩ (tgt := 14) dX3_cursorLine_7 rfl (fun c7 => ?_) (fun c7 => ?_)
  · skip
    refine zr_aload_n hO (hl := rfl) (j := 0) (hi := rfl) dX3_cursorLine_14 ?_
    refine zr_aload_n hO (hl := rfl) (j := 0) (hi := rfl) dX3_cursorLine_15 ?_
    refine zs_arr hO hf 1 dX3_cursorLine_16 q2971 (Nat.le_of_ble_eq_true rfl) rfl ?_
    refine zr_iconst hO dX3_cursorLine_19 ?_
    refine zs_ild hO hf 1 (f := g) (n := 2195) (j := 2) dX3_cursorLine_20 rfl rfl rfl hg (by omega) (by omega) rfl (fun ⟨r2a, r2b⟩ => ?_)
    refine zr_cVi hO zc_X3 zw_X3_192 (c_X3_numberOf hI hf hg (g 2) (⟨by omega, by omega⟩) (by omega) (by omega)) dX3_cursorLine_21 (zrd_of hf.1) rfl (rest := []) rfl ⟨Nat.le_of_ble_eq_true rfl, Nat.le_of_ble_eq_true rfl⟩ (Nat.le_of_ble_eq_true rfl) (Nat.le_refl _) (Nat.le_refl _) (fun x h hx => ?_)
    obtain ⟨hx, hf⟩ := hx
    have hx : x = gnu g (g 2) := hx
    subst hx
    exact zr_ireturn hO dX3_cursorLine_24 ⟨(by unfold gcu; rw [if_neg (by omega)]), hf⟩
  · skip
    refine zr_iconst hO dX3_cursorLine_10 ?_
    refine zr_goto hO (tgt := 24) dX3_cursorLine_11 rfl ?_
    exact zr_ireturn hO dX3_cursorLine_24 ⟨(by unfold gcu; rw [if_pos (by omega)]), hf⟩
theorem zw_X3_260 : zYw RX3 RX3 260 yX3_cursorLine cX3_cursorLine 1 (some Jvm.ClassFile.FieldType.int) 0 := ⟨q3364, q3366, qs82, q116, q3367, rfl, ⟨by decide +kernel, by decide +kernel, by decide +kernel⟩⟩
theorem c_X3_cursor {G : zG} {r : Nat} {ad : Nat → Nat} {h0 : zHp} (hI : zRI r ad) {σ : zS} {h : zHp} (hf : zRf r ad σ h0 h) {g : Nat → Int} (hg : σ.2 1 = g) (hw : zwf g) : zC G yX3_cursor cX3_cursor 1 (some Jvm.ClassFile.FieldType.int) 4 84 0 0 [zp r] h (zPi (fun x h' => x = (gcu g) ∧ ∃ τ : zS, τ.1 0 = 0 ∧ zCo σ τ ∧ zRf r ad τ h0 h') zNo) := by
  refine zC.of zpn_X3 (Nat.le_of_ble_eq_true rfl) (L := [(0, zp r)]) rfl (fun K hO => ?_)
  obtain ⟨w1, w2, w3⟩ := id hw
  refine zr_aload_n hO (hl := rfl) (j := 0) (hi := rfl) dX3_cursor_0 ?_
  refine zr_iconst hO dX3_cursor_1 ?_
  refine zs_put hO hI hf 0 dX3_cursor_2 q2970 (Nat.le_of_ble_eq_true rfl) rfl rfl rfl ⟨by omega, by omega⟩ (fun h hf => ?_)
  refine zr_aload_n hO (hl := rfl) (j := 0) (hi := rfl) dX3_cursor_5 ?_
  refine zr_cVi hO zc_X3 zw_X3_260 (c_X3_cursorLine hI hf hg  (by omega) (by omega)) dX3_cursor_6 (zrd_of hf.1) rfl (rest := []) rfl ⟨Nat.le_of_ble_eq_true rfl, Nat.le_of_ble_eq_true rfl⟩ (Nat.le_of_ble_eq_true rfl) (Nat.le_refl _) (Nat.le_refl _) (fun x h hx => ?_)
  obtain ⟨hx, hf⟩ := hx
  have hx : x = gcu g := hx
  subst hx
  exact zr_ireturn hO dX3_cursor_9 ⟨rfl, (zuS σ 0 0), (rfl), ((zCo.refl σ).uS (k := 0) (by decide) 0), hf⟩
theorem zw_X3_245 : zYs RX3 245 yX3_isMarker cX3_isMarker 1 (some Jvm.ClassFile.FieldType.boolean) 1 := ⟨q3321, q3322, q116, q3323, ⟨by decide +kernel, by decide +kernel, by decide +kernel⟩⟩
theorem c_X3_marker {G : zG} {r : Nat} {ad : Nat → Nat} {h0 : zHp} (hI : zRI r ad) {σ : zS} {h : zHp} (hf : zRf r ad σ h0 h) {g : Nat → Int} (hg : σ.2 1 = g) (m : Int) (hm : zR m) (hw : zwf g) : zC G yX3_marker cX3_marker 2 (some Jvm.ClassFile.FieldType.int) 3 64 0 0 [zp r, zi m] h (zPi (fun x h' => x = (if 0 ≤ m ∧ m ≤ 9 then gnu g (g (5 + m).toNat) else 0) ∧ ∃ τ : zS, τ.1 0 = (1 - zB (0 ≤ m ∧ m ≤ 9)) ∧ zCo σ τ ∧ zRf r ad τ h0 h') zNo) := by
  refine zC.of zpn_X3 (Nat.le_of_ble_eq_true rfl) (L := [(0, zp r), (1, zi m)]) rfl (fun K hO => ?_)
  obtain ⟨w1, w2, w3⟩ := id hw
  obtain ⟨hma, hmb⟩ := hm
  refine zr_aload_n hO (hl := rfl) (j := 0) (hi := rfl) dX3_marker_0 ?_
  refine zr_iload_n hO (hl := rfl) (j := 1) (hi := rfl) dX3_marker_1 ?_
  refine zr_cSi hO zw_X3_245 (c_X3_isMarker m (⟨by omega, by omega⟩)) dX3_marker_2 rfl (rest := [zp r]) rfl ⟨Nat.le_of_ble_eq_true rfl, Nat.le_of_ble_eq_true rfl⟩ (Nat.le_of_ble_eq_true rfl) (Nat.le_refl _) (Nat.le_refl _) (fun x h hx => ?_)
  obtain ⟨hx, rfl⟩ := hx
  have hx : x = zB (0 ≤ m ∧ m ≤ 9) := hx
  subst hx
  refine zr_cVi hO zc_X3 zw_X3_111 (c_X3_may hI hf (zB (0 ≤ m ∧ m ≤ 9)) (zB_01 _)) dX3_marker_5 (zrd_of hf.1) rfl (rest := []) rfl ⟨Nat.le_of_ble_eq_true rfl, Nat.le_of_ble_eq_true rfl⟩ (Nat.le_of_ble_eq_true rfl) (Nat.le_refl _) (Nat.le_refl _) (fun x h hx => ?_)
  obtain ⟨hx, hf⟩ := hx
  have hx : x = (zB (0 ≤ m ∧ m ≤ 9)) := hx
  subst hx
  have hf : zRf r ad (zuS σ 0 (1 - (zB (0 ≤ m ∧ m ≤ 9)))) h0 h := hf
  refine zr_if_eq hO (zR_B _) (tgt := 26) dX3_marker_8 rfl (fun c8 => ?_) (fun c8 => ?_)
  · skip
    have c8 := zB_eq c8
    refine zr_iconst hO dX3_marker_26 ?_
    exact zr_ireturn hO dX3_marker_27 ⟨(by rw [if_neg c8]), (zuS σ 0 (1 - (zB (0 ≤ m ∧ m ≤ 9)))), (rfl), ((zCo.refl σ).uS (k := 0) (by decide) (1 - (zB (0 ≤ m ∧ m ≤ 9)))), hf⟩
  · skip
    have c8 := zB_ne c8
    refine zr_aload_n hO (hl := rfl) (j := 0) (hi := rfl) dX3_marker_11 ?_
    refine zr_aload_n hO (hl := rfl) (j := 0) (hi := rfl) dX3_marker_12 ?_
    refine zs_arr hO hf 1 dX3_marker_13 q2971 (Nat.le_of_ble_eq_true rfl) rfl ?_
    refine zr_iconst hO dX3_marker_16 ?_
    refine zr_iload_n hO (hl := rfl) (j := 1) (hi := rfl) dX3_marker_17 ?_
    refine zr_iadd hO dX3_marker_18 ?_
    refine zs_ild hO hf 1 (f := g) (n := 2195) (j := (5 + m).toNat) dX3_marker_19 rfl rfl rfl hg (by omega) (by omega) rfl (fun ⟨r2a, r2b⟩ => ?_)
    refine zr_cVi hO zc_X3 zw_X3_192 (c_X3_numberOf hI hf hg (g ((5 + m).toNat)) (⟨by omega, by omega⟩) (by omega) (by omega)) dX3_marker_20 (zrd_of hf.1) rfl (rest := []) rfl ⟨Nat.le_of_ble_eq_true rfl, Nat.le_of_ble_eq_true rfl⟩ (Nat.le_of_ble_eq_true rfl) (Nat.le_refl _) (Nat.le_refl _) (fun x h hx => ?_)
    obtain ⟨hx, hf⟩ := hx
    have hx : x = gnu g (g ((5 + m).toNat)) := hx
    subst hx
    refine zr_goto hO (tgt := 27) dX3_marker_23 rfl ?_
    exact zr_ireturn hO dX3_marker_27 ⟨(by rw [if_pos c8]), (zuS σ 0 (1 - (zB (0 ≤ m ∧ m ≤ 9)))), (rfl), ((zCo.refl σ).uS (k := 0) (by decide) (1 - (zB (0 ≤ m ∧ m ≤ 9)))), hf⟩
theorem c_X3_jumped {G : zG} {r : Nat} {ad : Nat → Nat} {h0 : zHp} (hI : zRI r ad) {σ : zS} {h : zHp} (hf : zRf r ad σ h0 h) {g : Nat → Int} (hg : σ.2 1 = g) (f : Int) (u : Int) (hf1 : f = 0 ∨ f = 1) (hu : zR u) (hj3 : 0 ≤ g 3 ∧ g 3 ≤ 10) (hj4 : 0 ≤ g 4 ∧ g 4 ≤ 10) (hw : zwf g) : zC G yX3_jumped cX3_jumped 4 (some Jvm.ClassFile.FieldType.int) 3 64 0 0 [zp r, zi f, zi u] h (zPi (fun x h' => x = (if 0 ≤ u ∧ u ≤ (if f = 1 then g 4 else g 3) - 1 then gnu g (g ((if f = 1 then 25 else 15) + (if f = 1 then g 4 else g 3) - 1 - u).toNat) else 0) ∧ ∃ τ : zS, τ.1 0 = (1 - zB (0 ≤ u ∧ u ≤ (if f = 1 then g 4 else g 3) - 1)) ∧ zCo σ τ ∧ zRf r ad τ h0 h') zNo) := by
  refine zC.of zpn_X3 (Nat.le_of_ble_eq_true rfl) (L := [(0, zp r), (1, zi f), (2, zi u)]) rfl (fun K hO => ?_)
  obtain ⟨w1, w2, w3⟩ := id hw
  obtain ⟨hua, hub⟩ := hu
  refine zr_aload_n hO (hl := rfl) (j := 0) (hi := rfl) dX3_jumped_0 ?_
  refine zs_arr hO hf 1 dX3_jumped_1 q2971 (Nat.le_of_ble_eq_true rfl) rfl ?_
  refine zr_iload_n hO (hl := rfl) (j := 1) (hi := rfl) dX3_jumped_4 ?_
  refine zr_if_eq hO ⟨by omega, by omega⟩ (tgt := 12) dX3_jumped_5 rfl (fun c5 => ?_) (fun c5 => ?_)
  · skip
    refine zr_iconst hO dX3_jumped_12 ?_
    refine zs_ild hO hf 1 (f := g) (n := 2195) (j := 3) dX3_jumped_13 rfl rfl rfl hg (by omega) (by omega) rfl (fun ⟨r1a, r1b⟩ => ?_)
    refine zr_istore_n hO (L' := [(3, zi (g 3)), (0, zp r), (1, zi f), (2, zi u)]) (hi := rfl) dX3_jumped_14 (Nat.le_of_ble_eq_true rfl) rfl ?_
    refine zr_aload_n hO (hl := rfl) (j := 1) (hi := rfl) dX3_jumped_15 ?_
    refine zr_iload_n hO (hl := rfl) (j := 3) (hi := rfl) dX3_jumped_16 ?_
    refine zr_iconst hO dX3_jumped_17 ?_
    refine zr_iload_n hO (hl := rfl) (j := 0) (hi := rfl) dX3_jumped_18 ?_
    refine zr_iconst hO dX3_jumped_19 ?_
    refine zr_isub hO dX3_jumped_20 ?_
    refine zr_cSi hO zw_X3_95 (c_X3_in u 0 ((g 3) - 1) (⟨by omega, by omega⟩) (⟨by omega, by omega⟩) (⟨by omega, by omega⟩)) dX3_jumped_21 rfl (rest := [zp r]) rfl ⟨Nat.le_of_ble_eq_true rfl, Nat.le_of_ble_eq_true rfl⟩ (Nat.le_of_ble_eq_true rfl) (Nat.le_refl _) (Nat.le_refl _) (fun x h hx => ?_)
    obtain ⟨hx, rfl⟩ := hx
    have hx : x = zB (0 ≤ u ∧ u ≤ ((g 3) - 1)) := hx
    subst hx
    refine zr_cVi hO zc_X3 zw_X3_111 (c_X3_may hI hf (zB (0 ≤ u ∧ u ≤ ((g 3) - 1))) (zB_01 _)) dX3_jumped_24 (zrd_of hf.1) rfl (rest := []) rfl ⟨Nat.le_of_ble_eq_true rfl, Nat.le_of_ble_eq_true rfl⟩ (Nat.le_of_ble_eq_true rfl) (Nat.le_refl _) (Nat.le_refl _) (fun x h hx => ?_)
    obtain ⟨hx, hf⟩ := hx
    have hx : x = (zB (0 ≤ u ∧ u ≤ ((g 3) - 1))) := hx
    subst hx
    have hf : zRf r ad (zuS σ 0 (1 - (zB (0 ≤ u ∧ u ≤ ((g 3) - 1))))) h0 h := hf
    refine zr_if_eq hO (zR_B _) (tgt := 59) dX3_jumped_27 rfl (fun c27 => ?_) (fun c27 => ?_)
    · skip
      have c27 := zB_eq c27
      refine zr_iconst hO dX3_jumped_59 ?_
      exact zr_ireturn hO dX3_jumped_60 ⟨(by simp only [if_neg (show ¬ f = 1 by omega)]; rw [if_neg c27]), (zuS σ 0 (1 - (zB (0 ≤ u ∧ u ≤ ((g 3) - 1))))), (by rw [if_neg (by omega)]; exact rfl), ((zCo.refl σ).uS (k := 0) (by decide) (1 - (zB (0 ≤ u ∧ u ≤ ((g 3) - 1))))), hf⟩
    · skip
      have c27 := zB_ne c27
      refine zr_aload_n hO (hl := rfl) (j := 1) (hi := rfl) dX3_jumped_30 ?_
      refine zr_aload_n hO (hl := rfl) (j := 1) (hi := rfl) dX3_jumped_31 ?_
      refine zs_arr hO hf 1 dX3_jumped_32 q2971 (Nat.le_of_ble_eq_true rfl) rfl ?_
      refine zr_iload_n hO (hl := rfl) (j := 2) (hi := rfl) dX3_jumped_35 ?_
      refine zr_if_eq hO ⟨by omega, by omega⟩ (tgt := 44) dX3_jumped_36 rfl (fun c36 => ?_) (fun c36 => ?_)
      · skip
        refine zr_bipush hO (by decide) dX3_jumped_44 ?_
        refine zr_iload_n hO (hl := rfl) (j := 0) (hi := rfl) dX3_jumped_46 ?_
        refine zr_iadd hO dX3_jumped_47 ?_
        refine zr_iconst hO dX3_jumped_48 ?_
        refine zr_isub hO dX3_jumped_49 ?_
        refine zr_iload_n hO (hl := rfl) (j := 3) (hi := rfl) dX3_jumped_50 ?_
        refine zr_isub hO dX3_jumped_51 ?_
        refine zs_ild hO hf 1 (f := g) (n := 2195) (j := (((15 + (g 3)) - 1) - u).toNat) dX3_jumped_52 rfl rfl rfl hg (by omega) (by omega) rfl (fun ⟨r3a, r3b⟩ => ?_)
        refine zr_cVi hO zc_X3 zw_X3_192 (c_X3_numberOf hI hf hg (g ((((15 + (g 3)) - 1) - u).toNat)) (⟨by omega, by omega⟩) (by omega) (by omega)) dX3_jumped_53 (zrd_of hf.1) rfl (rest := []) rfl ⟨Nat.le_of_ble_eq_true rfl, Nat.le_of_ble_eq_true rfl⟩ (Nat.le_of_ble_eq_true rfl) (Nat.le_refl _) (Nat.le_refl _) (fun x h hx => ?_)
        obtain ⟨hx, hf⟩ := hx
        have hx : x = gnu g (g ((((15 + (g 3)) - 1) - u).toNat)) := hx
        subst hx
        refine zr_goto hO (tgt := 60) dX3_jumped_56 rfl ?_
        exact zr_ireturn hO dX3_jumped_60 ⟨(by first | (simp only [if_neg (show ¬ f = 1 by omega)]; rw [if_pos c27]; done) | (exfalso; omega)), (zuS σ 0 (1 - (zB (0 ≤ u ∧ u ≤ ((g 3) - 1))))), (by rw [if_neg (by omega)]; exact rfl), ((zCo.refl σ).uS (k := 0) (by decide) (1 - (zB (0 ≤ u ∧ u ≤ ((g 3) - 1))))), hf⟩
      · skip
        refine zr_bipush hO (by decide) dX3_jumped_39 ?_
        refine zr_goto hO (tgt := 46) dX3_jumped_41 rfl ?_
        refine zr_iload_n hO (hl := rfl) (j := 0) (hi := rfl) dX3_jumped_46 ?_
        refine zr_iadd hO dX3_jumped_47 ?_
        refine zr_iconst hO dX3_jumped_48 ?_
        refine zr_isub hO dX3_jumped_49 ?_
        refine zr_iload_n hO (hl := rfl) (j := 3) (hi := rfl) dX3_jumped_50 ?_
        refine zr_isub hO dX3_jumped_51 ?_
        refine zs_ild hO hf 1 (f := g) (n := 2195) (j := (((25 + (g 3)) - 1) - u).toNat) dX3_jumped_52 rfl rfl rfl hg (by omega) (by omega) rfl (fun ⟨r5a, r5b⟩ => ?_)
        refine zr_cVi hO zc_X3 zw_X3_192 (c_X3_numberOf hI hf hg (g ((((25 + (g 3)) - 1) - u).toNat)) (⟨by omega, by omega⟩) (by omega) (by omega)) dX3_jumped_53 (zrd_of hf.1) rfl (rest := []) rfl ⟨Nat.le_of_ble_eq_true rfl, Nat.le_of_ble_eq_true rfl⟩ (Nat.le_of_ble_eq_true rfl) (Nat.le_refl _) (Nat.le_refl _) (fun x h hx => ?_)
        obtain ⟨hx, hf⟩ := hx
        have hx : x = gnu g (g ((((25 + (g 3)) - 1) - u).toNat)) := hx
        subst hx
        refine zr_goto hO (tgt := 60) dX3_jumped_56 rfl ?_
        exact zr_ireturn hO dX3_jumped_60 ⟨(by first | (simp only [if_neg (show ¬ f = 1 by omega)]; rw [if_pos c27]; done) | (exfalso; omega)), (zuS σ 0 (1 - (zB (0 ≤ u ∧ u ≤ ((g 3) - 1))))), (by rw [if_neg (by omega)]; exact rfl), ((zCo.refl σ).uS (k := 0) (by decide) (1 - (zB (0 ≤ u ∧ u ≤ ((g 3) - 1))))), hf⟩
  · skip
    refine zr_iconst hO dX3_jumped_8 ?_
    refine zr_goto hO (tgt := 13) dX3_jumped_9 rfl ?_
    refine zs_ild hO hf 1 (f := g) (n := 2195) (j := 4) dX3_jumped_13 rfl rfl rfl hg (by omega) (by omega) rfl (fun ⟨r7a, r7b⟩ => ?_)
    refine zr_istore_n hO (L' := [(3, zi (g 4)), (0, zp r), (1, zi f), (2, zi u)]) (hi := rfl) dX3_jumped_14 (Nat.le_of_ble_eq_true rfl) rfl ?_
    refine zr_aload_n hO (hl := rfl) (j := 1) (hi := rfl) dX3_jumped_15 ?_
    refine zr_iload_n hO (hl := rfl) (j := 3) (hi := rfl) dX3_jumped_16 ?_
    refine zr_iconst hO dX3_jumped_17 ?_
    refine zr_iload_n hO (hl := rfl) (j := 0) (hi := rfl) dX3_jumped_18 ?_
    refine zr_iconst hO dX3_jumped_19 ?_
    refine zr_isub hO dX3_jumped_20 ?_
    refine zr_cSi hO zw_X3_95 (c_X3_in u 0 ((g 4) - 1) (⟨by omega, by omega⟩) (⟨by omega, by omega⟩) (⟨by omega, by omega⟩)) dX3_jumped_21 rfl (rest := [zp r]) rfl ⟨Nat.le_of_ble_eq_true rfl, Nat.le_of_ble_eq_true rfl⟩ (Nat.le_of_ble_eq_true rfl) (Nat.le_refl _) (Nat.le_refl _) (fun x h hx => ?_)
    obtain ⟨hx, rfl⟩ := hx
    have hx : x = zB (0 ≤ u ∧ u ≤ ((g 4) - 1)) := hx
    subst hx
    refine zr_cVi hO zc_X3 zw_X3_111 (c_X3_may hI hf (zB (0 ≤ u ∧ u ≤ ((g 4) - 1))) (zB_01 _)) dX3_jumped_24 (zrd_of hf.1) rfl (rest := []) rfl ⟨Nat.le_of_ble_eq_true rfl, Nat.le_of_ble_eq_true rfl⟩ (Nat.le_of_ble_eq_true rfl) (Nat.le_refl _) (Nat.le_refl _) (fun x h hx => ?_)
    obtain ⟨hx, hf⟩ := hx
    have hx : x = (zB (0 ≤ u ∧ u ≤ ((g 4) - 1))) := hx
    subst hx
    have hf : zRf r ad (zuS σ 0 (1 - (zB (0 ≤ u ∧ u ≤ ((g 4) - 1))))) h0 h := hf
    refine zr_if_eq hO (zR_B _) (tgt := 59) dX3_jumped_27 rfl (fun c27 => ?_) (fun c27 => ?_)
    · skip
      have c27 := zB_eq c27
      refine zr_iconst hO dX3_jumped_59 ?_
      exact zr_ireturn hO dX3_jumped_60 ⟨(by simp only [if_pos (show f = 1 by omega)]; rw [if_neg c27]), (zuS σ 0 (1 - (zB (0 ≤ u ∧ u ≤ ((g 4) - 1))))), (by rw [if_pos (by omega)]; exact rfl), ((zCo.refl σ).uS (k := 0) (by decide) (1 - (zB (0 ≤ u ∧ u ≤ ((g 4) - 1))))), hf⟩
    · skip
      have c27 := zB_ne c27
      refine zr_aload_n hO (hl := rfl) (j := 1) (hi := rfl) dX3_jumped_30 ?_
      refine zr_aload_n hO (hl := rfl) (j := 1) (hi := rfl) dX3_jumped_31 ?_
      refine zs_arr hO hf 1 dX3_jumped_32 q2971 (Nat.le_of_ble_eq_true rfl) rfl ?_
      refine zr_iload_n hO (hl := rfl) (j := 2) (hi := rfl) dX3_jumped_35 ?_
      refine zr_if_eq hO ⟨by omega, by omega⟩ (tgt := 44) dX3_jumped_36 rfl (fun c36 => ?_) (fun c36 => ?_)
      · skip
        refine zr_bipush hO (by decide) dX3_jumped_44 ?_
        refine zr_iload_n hO (hl := rfl) (j := 0) (hi := rfl) dX3_jumped_46 ?_
        refine zr_iadd hO dX3_jumped_47 ?_
        refine zr_iconst hO dX3_jumped_48 ?_
        refine zr_isub hO dX3_jumped_49 ?_
        refine zr_iload_n hO (hl := rfl) (j := 3) (hi := rfl) dX3_jumped_50 ?_
        refine zr_isub hO dX3_jumped_51 ?_
        refine zs_ild hO hf 1 (f := g) (n := 2195) (j := (((15 + (g 4)) - 1) - u).toNat) dX3_jumped_52 rfl rfl rfl hg (by omega) (by omega) rfl (fun ⟨r9a, r9b⟩ => ?_)
        refine zr_cVi hO zc_X3 zw_X3_192 (c_X3_numberOf hI hf hg (g ((((15 + (g 4)) - 1) - u).toNat)) (⟨by omega, by omega⟩) (by omega) (by omega)) dX3_jumped_53 (zrd_of hf.1) rfl (rest := []) rfl ⟨Nat.le_of_ble_eq_true rfl, Nat.le_of_ble_eq_true rfl⟩ (Nat.le_of_ble_eq_true rfl) (Nat.le_refl _) (Nat.le_refl _) (fun x h hx => ?_)
        obtain ⟨hx, hf⟩ := hx
        have hx : x = gnu g (g ((((15 + (g 4)) - 1) - u).toNat)) := hx
        subst hx
        refine zr_goto hO (tgt := 60) dX3_jumped_56 rfl ?_
        exact zr_ireturn hO dX3_jumped_60 ⟨(by first | (simp only [if_pos (show f = 1 by omega)]; rw [if_pos c27]; done) | (exfalso; omega)), (zuS σ 0 (1 - (zB (0 ≤ u ∧ u ≤ ((g 4) - 1))))), (by rw [if_pos (by omega)]; exact rfl), ((zCo.refl σ).uS (k := 0) (by decide) (1 - (zB (0 ≤ u ∧ u ≤ ((g 4) - 1))))), hf⟩
      · skip
        refine zr_bipush hO (by decide) dX3_jumped_39 ?_
        refine zr_goto hO (tgt := 46) dX3_jumped_41 rfl ?_
        refine zr_iload_n hO (hl := rfl) (j := 0) (hi := rfl) dX3_jumped_46 ?_
        refine zr_iadd hO dX3_jumped_47 ?_
        refine zr_iconst hO dX3_jumped_48 ?_
        refine zr_isub hO dX3_jumped_49 ?_
        refine zr_iload_n hO (hl := rfl) (j := 3) (hi := rfl) dX3_jumped_50 ?_
        refine zr_isub hO dX3_jumped_51 ?_
        refine zs_ild hO hf 1 (f := g) (n := 2195) (j := (((25 + (g 4)) - 1) - u).toNat) dX3_jumped_52 rfl rfl rfl hg (by omega) (by omega) rfl (fun ⟨r11a, r11b⟩ => ?_)
        refine zr_cVi hO zc_X3 zw_X3_192 (c_X3_numberOf hI hf hg (g ((((25 + (g 4)) - 1) - u).toNat)) (⟨by omega, by omega⟩) (by omega) (by omega)) dX3_jumped_53 (zrd_of hf.1) rfl (rest := []) rfl ⟨Nat.le_of_ble_eq_true rfl, Nat.le_of_ble_eq_true rfl⟩ (Nat.le_of_ble_eq_true rfl) (Nat.le_refl _) (Nat.le_refl _) (fun x h hx => ?_)
        obtain ⟨hx, hf⟩ := hx
        have hx : x = gnu g (g ((((25 + (g 4)) - 1) - u).toNat)) := hx
        subst hx
        refine zr_goto hO (tgt := 60) dX3_jumped_56 rfl ?_
        exact zr_ireturn hO dX3_jumped_60 ⟨(by first | (simp only [if_pos (show f = 1 by omega)]; rw [if_pos c27]; done) | (exfalso; omega)), (zuS σ 0 (1 - (zB (0 ≤ u ∧ u ≤ ((g 4) - 1))))), (by rw [if_pos (by omega)]; exact rfl), ((zCo.refl σ).uS (k := 0) (by decide) (1 - (zB (0 ≤ u ∧ u ≤ ((g 4) - 1))))), hf⟩
theorem c_X3_nextMarked {G : zG} {r : Nat} {ad : Nat → Nat} {h0 : zHp} (hI : zRI r ad) {σ : zS} {h : zHp} (hf : zRf r ad σ h0 h) {g : Nat → Int} (hg : σ.2 1 = g) (n : Int) (f : Int) (hn : zR n) (hf1 : f = 0 ∨ f = 1) (hw : zwf g) : zC G yX3_nextMarked cX3_nextMarked 6 (some Jvm.ClassFile.FieldType.int) 3 65 0 0 [zp r, zi n, zi f] h (zPi (fun x h' => x = (if 1 ≤ n ∧ n ≤ g 0 then gnm g n (if f = 1 then 1 else g 0 - 1) else 0) ∧ ∃ τ : zS, τ.1 0 = (1 - zB (1 ≤ n ∧ n ≤ g 0)) ∧ zCo σ τ ∧ zRf r ad τ h0 h') zNo) := by
  refine zC.of zpn_X3 (Nat.le_of_ble_eq_true rfl) (L := [(0, zp r), (1, zi n), (2, zi f)]) rfl (fun K hO => ?_)
  obtain ⟨w1, w2, w3⟩ := id hw
  obtain ⟨hna, hnb⟩ := hn
  refine zr_aload_n hO (hl := rfl) (j := 0) (hi := rfl) dX3_nextMarked_0 ?_
  refine zr_aload_n hO (hl := rfl) (j := 0) (hi := rfl) dX3_nextMarked_1 ?_
  refine zr_iload_n hO (hl := rfl) (j := 1) (hi := rfl) dX3_nextMarked_2 ?_
  refine zr_cVi hO zc_X3 zw_X3_167 (c_X3_isLine hI hf hg n (⟨by omega, by omega⟩)) dX3_nextMarked_3 (zrd_of hf.1) rfl (rest := [zp r]) rfl ⟨Nat.le_of_ble_eq_true rfl, Nat.le_of_ble_eq_true rfl⟩ (Nat.le_of_ble_eq_true rfl) (Nat.le_refl _) (Nat.le_refl _) (fun x h hx => ?_)
  obtain ⟨hx, hf⟩ := hx
  have hx : x = zB (1 ≤ n ∧ n ≤ g 0) := hx
  subst hx
  refine zr_cVi hO zc_X3 zw_X3_111 (c_X3_may hI hf (zB (1 ≤ n ∧ n ≤ g 0)) (zB_01 _)) dX3_nextMarked_6 (zrd_of hf.1) rfl (rest := []) rfl ⟨Nat.le_of_ble_eq_true rfl, Nat.le_of_ble_eq_true rfl⟩ (Nat.le_of_ble_eq_true rfl) (Nat.le_refl _) (Nat.le_refl _) (fun x h hx => ?_)
  obtain ⟨hx, hf⟩ := hx
  have hx : x = (zB (1 ≤ n ∧ n ≤ g 0)) := hx
  subst hx
  have hf : zRf r ad (zuS σ 0 (1 - (zB (1 ≤ n ∧ n ≤ g 0)))) h0 h := hf
  refine zr_if_ne hO (zR_B _) (tgt := 14) dX3_nextMarked_9 rfl (fun c9 => ?_) (fun c9 => ?_)
  · skip
    have c9 := zB_ne c9
    have hj30 : ∀ (d : Int) (hd : d = if f = 1 then 1 else g 0 - 1) (h : zHp) (hf : zRf r ad (zuS σ 0 (1 - (zB (1 ≤ n ∧ n ≤ g 0)))) h0 h), zV G K 0 0 h 30 [(0, zp r), (1, zi n), (2, zi f)] [zi d] := by
      intro d hd h hf
      have hdr : d = 1 ∨ d = g 0 - 1 := by rw [hd]; split <;> omega
      refine zr_istore_n hO (L' := [(3, zi d), (0, zp r), (1, zi n), (2, zi f)]) (hi := rfl) dX3_nextMarked_30 (Nat.le_of_ble_eq_true rfl) rfl ?_
      refine zr_iconst hO dX3_nextMarked_31 ?_
      refine zr_istore hO (L' := [(4, zi 1), (3, zi d), (0, zp r), (1, zi n), (2, zi f)]) dX3_nextMarked_32 (Nat.le_of_ble_eq_true rfl) rfl ?_
      have hl34 : ∀ (n9 : Nat) (i : Int), (g 0 + 1 - i).toNat = n9 → ∀ (i1 : 1 ≤ i) (i2 : i ≤ g 0 + 1) (i3 : ∀ j, 1 ≤ j → j < i → gmo g (gky g ((n - 1 + j * d) % g 0 + 1)) = 0) (h : zHp) (hf : zRf r ad (zuS σ 0 (1 - (zB (1 ≤ n ∧ n ≤ g 0)))) h0 h), zV G K 0 0 h 34 [(0, zp r), (1, zi n), (2, zi f), (3, zi d), (4, zi i)] [] := by
        intro n9
        induction n9 using Nat.strongRecOn with
        | _ n9 ih34 =>
        intro i hn34 i1 i2 i3 h hf
        refine zr_iload hO (hl := rfl) (j := 4) dX3_nextMarked_34 ?_
        refine zr_aload_n hO (hl := rfl) (j := 0) (hi := rfl) dX3_nextMarked_36 ?_
        refine zs_arr hO hf 1 dX3_nextMarked_37 q2971 (Nat.le_of_ble_eq_true rfl) rfl ?_
        refine zr_iconst hO dX3_nextMarked_40 ?_
        refine zs_ild hO hf 1 (f := g) (n := 2195) (j := 0) dX3_nextMarked_41 rfl rfl rfl hg (by omega) (by omega) rfl (fun ⟨r3a, r3b⟩ => ?_)
        refine zr_icmp_gt hO ⟨by omega, by omega⟩ ⟨by omega, by omega⟩ (tgt := 82) dX3_nextMarked_42 rfl (fun c42 => ?_) (fun c42 => ?_)
        · skip
          refine zr_iconst hO dX3_nextMarked_82 ?_
          exact zr_ireturn hO dX3_nextMarked_83 ⟨(by rw [if_pos c9]; unfold gnm; rw [← hd]; exact (gnm_miss (fun j a c => i3 j a (by omega))).symm), (zuS σ 0 (1 - (zB (1 ≤ n ∧ n ≤ g 0)))), (rfl), ((zCo.refl σ).uS (k := 0) (by decide) (1 - (zB (1 ≤ n ∧ n ≤ g 0)))), hf⟩
        · skip
          have hid : 0 ≤ i * d ∧ i * d ≤ 6400 := by rcases hdr with q | q; (rw [q]; omega); (rw [q]; exact ⟨Int.mul_nonneg (by omega) (by omega), Int.le_trans (Int.mul_le_mul (show i ≤ 80 by omega) (show g 0 - 1 ≤ 80 by omega) (by omega) (by omega)) (by decide)⟩)
          refine zr_iload_n hO (hl := rfl) (j := 1) (hi := rfl) dX3_nextMarked_45 ?_
          refine zr_iconst hO dX3_nextMarked_46 ?_
          refine zr_isub hO dX3_nextMarked_47 ?_
          refine zr_iload hO (hl := rfl) (j := 4) dX3_nextMarked_48 ?_
          refine zr_iload_n hO (hl := rfl) (j := 3) (hi := rfl) dX3_nextMarked_50 ?_
          refine zr_imul hO dX3_nextMarked_51 ?_
          refine zr_iadd hO dX3_nextMarked_52 ?_
          refine zr_aload_n hO (hl := rfl) (j := 0) (hi := rfl) dX3_nextMarked_53 ?_
          refine zs_arr hO hf 1 dX3_nextMarked_54 q2971 (Nat.le_of_ble_eq_true rfl) rfl ?_
          refine zr_iconst hO dX3_nextMarked_57 ?_
          refine zs_ild hO hf 1 (f := g) (n := 2195) (j := 0) dX3_nextMarked_58 rfl rfl rfl hg (by omega) (by omega) rfl (fun ⟨r4a, r4b⟩ => ?_)
          have hmd := Int.emod_nonneg (n - 1 + i * d) (show g 0 ≠ 0 by omega)
          have hml := Int.emod_lt_of_pos (n - 1 + i * d) (show 0 < g 0 by omega)
          refine zr_irem hO (by omega) (by omega) (by omega) (by omega) dX3_nextMarked_59 ?_
          refine zr_iconst hO dX3_nextMarked_60 ?_
          refine zr_iadd hO dX3_nextMarked_61 ?_
          refine zr_istore hO (L' := [(5, zi ((((n - 1) + (i * d)) % (g 0)) + 1)), (0, zp r), (1, zi n), (2, zi f), (3, zi d), (4, zi i)]) dX3_nextMarked_62 (Nat.le_of_ble_eq_true rfl) rfl ?_
          refine zr_aload_n hO (hl := rfl) (j := 1) (hi := rfl) dX3_nextMarked_64 ?_
          refine zr_iload hO (hl := rfl) (j := 0) dX3_nextMarked_65 ?_
          refine zr_cVi hO zc_X3 zw_X3_183 (c_X3_markersOn hI hf hg ((((n - 1) + (i * d)) % (g 0)) + 1) (by omega) (by omega)) dX3_nextMarked_67 (zrd_of hf.1) rfl (rest := []) rfl ⟨Nat.le_of_ble_eq_true rfl, Nat.le_of_ble_eq_true rfl⟩ (Nat.le_of_ble_eq_true rfl) (Nat.le_refl _) (Nat.le_refl _) (fun x h hx => ?_)
          obtain ⟨hx, hf⟩ := hx
          have hx : x = gmo g (gky g ((((n - 1) + (i * d)) % (g 0)) + 1)) := hx
          subst hx
          have hgm := gmo_R g (gky g ((n - 1 + i * d) % g 0 + 1))
          obtain ⟨hgma, hgmb⟩ := hgm
          refine zr_if_eq hO ⟨by omega, by omega⟩ (tgt := 76) dX3_nextMarked_70 rfl (fun c70 => ?_) (fun c70 => ?_)
          · skip
            refine zr_iinc hO (L' := [(4, zi (i + 1)), (5, zi ((((n - 1) + (i * d)) % (g 0)) + 1)), (0, zp r), (1, zi n), (2, zi f), (3, zi d)]) (j := 5) dX3_nextMarked_76 rfl (Nat.le_of_ble_eq_true rfl) rfl ?_
            refine zr_goto hO (tgt := 34) dX3_nextMarked_79 rfl ?_
            refine zV.loc [2, 3, 4, 5, 0] rfl ?_
            exact ih34 _ (by omega) (i + 1) rfl (by omega) (by omega) (fun j a c => by by_cases e : j = i; (rw [e]; exact c70); exact i3 j a (by omega)) h hf
          · skip
            refine zr_iload hO (hl := rfl) (j := 0) dX3_nextMarked_73 ?_
            exact zr_ireturn hO dX3_nextMarked_75 ⟨(by rw [if_pos c9]; unfold gnm; rw [← hd]; exact (gnm_hit i1 (by omega) c70 (fun j a c => i3 j a c)).symm), (zuS σ 0 (1 - (zB (1 ≤ n ∧ n ≤ g 0)))), (rfl), ((zCo.refl σ).uS (k := 0) (by decide) (1 - (zB (1 ≤ n ∧ n ≤ g 0)))), hf⟩
      refine zV.loc [2, 3, 4, 1, 0] rfl ?_
      exact hl34 _ 1 rfl (by omega) (by omega) (fun j a c => by omega) h hf
    refine zr_iload_n hO (hl := rfl) (j := 2) (hi := rfl) dX3_nextMarked_14 ?_
    refine zr_if_eq hO ⟨by omega, by omega⟩ (tgt := 22) dX3_nextMarked_15 rfl (fun c15 => ?_) (fun c15 => ?_)
    · skip
      refine zr_aload_n hO (hl := rfl) (j := 0) (hi := rfl) dX3_nextMarked_22 ?_
      refine zs_arr hO hf 1 dX3_nextMarked_23 q2971 (Nat.le_of_ble_eq_true rfl) rfl ?_
      refine zr_iconst hO dX3_nextMarked_26 ?_
      refine zs_ild hO hf 1 (f := g) (n := 2195) (j := 0) dX3_nextMarked_27 rfl rfl rfl hg (by omega) (by omega) rfl (fun ⟨r6a, r6b⟩ => ?_)
      refine zr_iconst hO dX3_nextMarked_28 ?_
      refine zr_isub hO dX3_nextMarked_29 ?_
      exact hj30 ((g 0) - 1) (by rw [if_neg (by omega)]) h hf
    · skip
      refine zr_iconst hO dX3_nextMarked_18 ?_
      refine zr_goto hO (tgt := 30) dX3_nextMarked_19 rfl ?_
      exact hj30 1 (by rw [if_pos (by omega)]) h hf
  · skip
    have c9 := zB_eq c9
    refine zr_iconst hO dX3_nextMarked_12 ?_
    exact zr_ireturn hO dX3_nextMarked_13 ⟨(by rw [if_neg c9]), (zuS σ 0 (1 - (zB (1 ≤ n ∧ n ≤ g 0)))), (rfl), ((zCo.refl σ).uS (k := 0) (by decide) (1 - (zB (1 ≤ n ∧ n ≤ g 0)))), hf⟩
theorem zw_X3_242 : zYs RX3 242 yX3_told cX3_told 1 (some Jvm.ClassFile.FieldType.int) 1 := ⟨q3302, q3303, q116, q3304, ⟨by decide +kernel, by decide +kernel, by decide +kernel⟩⟩
theorem c_X3_partner {G : zG} {r : Nat} {ad : Nat → Nat} {h0 : zHp} (hI : zRI r ad) {σ : zS} {h : zHp} (hf : zRf r ad σ h0 h) {g : Nat → Int} (hg : σ.2 1 = g) (n : Int) (i : Int) (hn : zR n) (hi : zR i) (hw : zwf g) : zC G yX3_partner cX3_partner 5 (some Jvm.ClassFile.FieldType.int) 4 88 0 0 [zp r, zi n, zi i] h (zPi (fun x h' => x = (if ((1 ≤ n ∧ n ≤ g 0) ∧ (0 ≤ i ∧ i ≤ gln g n - 1)) ∧ (((1 ≤ n ∧ n ≤ g 0) ∧ (0 ≤ i ∧ i ≤ gln g n - 1)) ∧ (gch g n i = 123 ∨ gch g n i = 125)) then (if gmt g (24 * (n - 1) + i).toNat = -1 then -1 else gto (gmt g (24 * (n - 1) + i).toNat)) else 0) ∧ ∃ τ : zS, τ.1 0 = (if zB ((1 ≤ n ∧ n ≤ g 0) ∧ (0 ≤ i ∧ i ≤ gln g n - 1)) = 0 then 1 else 2 - 2 * zB (((1 ≤ n ∧ n ≤ g 0) ∧ (0 ≤ i ∧ i ≤ gln g n - 1)) ∧ (gch g n i = 123 ∨ gch g n i = 125))) ∧ zCo σ τ ∧ zRf r ad τ h0 h') zNo) := by
  refine zC.of zpn_X3 (Nat.le_of_ble_eq_true rfl) (L := [(0, zp r), (1, zi n), (2, zi i)]) rfl (fun K hO => ?_)
  obtain ⟨w1, w2, w3⟩ := id hw
  obtain ⟨hna, hnb⟩ := hn
  obtain ⟨hia, hib⟩ := hi
  have hj28 : ∀ (b : Int) (hb : b = zB ((1 ≤ n ∧ n ≤ g 0) ∧ (0 ≤ i ∧ i ≤ gln g n - 1))) (h : zHp) (hf : zRf r ad σ h0 h), zV G K 0 0 h 28 [(0, zp r), (1, zi n), (2, zi i)] [zi b] := by
    intro b hb h hf
    subst hb
    refine zr_istore_n hO (L' := [(3, zi (zB ((1 ≤ n ∧ n ≤ g 0) ∧ (0 ≤ i ∧ i ≤ gln g n - 1)))), (0, zp r), (1, zi n), (2, zi i)]) (hi := rfl) dX3_partner_28 (Nat.le_of_ble_eq_true rfl) rfl ?_
    have hj49 : ∀ (b : Int) (hb : b = zB (((1 ≤ n ∧ n ≤ g 0) ∧ (0 ≤ i ∧ i ≤ gln g n - 1)) ∧ (gch g n i = 123 ∨ gch g n i = 125))) (h : zHp) (hf : zRf r ad σ h0 h), zV G K 0 0 h 49 [(3, zi (zB ((1 ≤ n ∧ n ≤ g 0) ∧ (0 ≤ i ∧ i ≤ gln g n - 1)))), (0, zp r), (1, zi n), (2, zi i)] [zi b, zi (zB ((1 ≤ n ∧ n ≤ g 0) ∧ (0 ≤ i ∧ i ≤ gln g n - 1))), zp r] := by
      intro b hb h hf
      subst hb
      refine zr_cVi hO zc_X3 zw_X3_170 (c_X3_mayBoth hI hf (zB ((1 ≤ n ∧ n ≤ g 0) ∧ (0 ≤ i ∧ i ≤ gln g n - 1))) (zB (((1 ≤ n ∧ n ≤ g 0) ∧ (0 ≤ i ∧ i ≤ gln g n - 1)) ∧ (gch g n i = 123 ∨ gch g n i = 125))) (zB_01 _) (zB_01 _)) dX3_partner_49 (zrd_of hf.1) rfl (rest := []) rfl ⟨Nat.le_of_ble_eq_true rfl, Nat.le_of_ble_eq_true rfl⟩ (Nat.le_of_ble_eq_true rfl) (Nat.le_refl _) (Nat.le_refl _) (fun x h hx => ?_)
      obtain ⟨hx, hf⟩ := hx
      have hx : x = zB ((zB ((1 ≤ n ∧ n ≤ g 0) ∧ (0 ≤ i ∧ i ≤ gln g n - 1))) = 1 ∧ (zB (((1 ≤ n ∧ n ≤ g 0) ∧ (0 ≤ i ∧ i ≤ gln g n - 1)) ∧ (gch g n i = 123 ∨ gch g n i = 125))) = 1) := hx
      subst hx
      have hf : zRf r ad (zuS σ 0 (if (zB ((1 ≤ n ∧ n ≤ g 0) ∧ (0 ≤ i ∧ i ≤ gln g n - 1))) = 0 then 1 else 2 - 2 * (zB (((1 ≤ n ∧ n ≤ g 0) ∧ (0 ≤ i ∧ i ≤ gln g n - 1)) ∧ (gch g n i = 123 ∨ gch g n i = 125))))) h0 h := hf
      rw [show (zB ((zB ((1 ≤ n ∧ n ≤ g 0) ∧ (0 ≤ i ∧ i ≤ gln g n - 1))) = 1 ∧ (zB (((1 ≤ n ∧ n ≤ g 0) ∧ (0 ≤ i ∧ i ≤ gln g n - 1)) ∧ (gch g n i = 123 ∨ gch g n i = 125))) = 1)) = zB (((1 ≤ n ∧ n ≤ g 0) ∧ (0 ≤ i ∧ i ≤ gln g n - 1)) ∧ (((1 ≤ n ∧ n ≤ g 0) ∧ (0 ≤ i ∧ i ≤ gln g n - 1)) ∧ (gch g n i = 123 ∨ gch g n i = 125))) from zB_and _ _]
      refine zr_if_ne hO (zR_B _) (tgt := 57) dX3_partner_52 rfl (fun c52 => ?_) (fun c52 => ?_)
      · skip
        have c52 := zB_ne c52
        have w3n := w3 n (by omega) (by omega)
        have hgp := gpc_in (g := g) (n := n) (i := i) (by omega) (by omega) (by omega) (by omega) (by omega)
        have hgt := gmt_in (g := g) (p := (24 * (n - 1) + i).toNat) (by omega) (by omega)
        refine zr_aload_n hO (hl := rfl) (j := 1) (hi := rfl) dX3_partner_57 ?_
        refine zr_cVv hO zc_X3 zw_X3_151 (c_X3_laysMates hI hf hg  (hw)) dX3_partner_58 (zrd_of hf.1) rfl (rest := []) rfl ⟨Nat.le_of_ble_eq_true rfl, Nat.le_of_ble_eq_true rfl⟩ (Nat.le_of_ble_eq_true rfl) (Nat.le_refl _) (Nat.le_refl _) (fun h hx => ?_)
        obtain ⟨τ1, hs1, hm1, hf⟩ := hx
        refine zr_aload_n hO (hl := rfl) (j := 1) (hi := rfl) dX3_partner_61 ?_
        refine zs_arr hO hf 11 dX3_partner_62 q2981 (Nat.le_of_ble_eq_true rfl) rfl ?_
        refine zr_iload_n hO (hl := rfl) (j := 2) (hi := rfl) dX3_partner_65 ?_
        refine zr_iload_n hO (hl := rfl) (j := 3) (hi := rfl) dX3_partner_66 ?_
        refine zr_cSi hO zw_X3_142 (c_X3_place n i) dX3_partner_67 rfl (rest := [zp (ad 11)]) rfl ⟨Nat.le_of_ble_eq_true rfl, Nat.le_of_ble_eq_true rfl⟩ (Nat.le_of_ble_eq_true rfl) (Nat.le_refl _) (Nat.le_refl _) (fun x h hx => ?_)
        obtain ⟨hx, rfl⟩ := hx
        have hx : x = 24 * (n - 1) + i := hx
        subst hx
        refine zs_ild hO hf 11 (f := τ1.2 11) (n := 1920) (j := (24 * (n - 1) + i).toNat) dX3_partner_70 rfl rfl rfl rfl (by omega) (by omega) rfl (fun ⟨r2a, r2b⟩ => ?_)
        rw [show ((τ1.2 11) ((24 * (n - 1) + i).toNat)) = gmt g (24 * (n - 1) + i).toNat from (hm1.1 _ (by omega))]
        refine zr_istore hO (L' := [(4, zi (gmt g (24 * (n - 1) + i).toNat)), (3, zi (zB ((1 ≤ n ∧ n ≤ g 0) ∧ (0 ≤ i ∧ i ≤ gln g n - 1)))), (0, zp r), (1, zi n), (2, zi i)]) dX3_partner_71 (Nat.le_of_ble_eq_true rfl) rfl ?_
        refine zr_iload hO (hl := rfl) (j := 0) dX3_partner_73 ?_
        refine zr_iconst hO dX3_partner_75 ?_
        refine zr_icmp_ne hO ⟨by omega, by omega⟩ ⟨by omega, by omega⟩ (tgt := 83) dX3_partner_76 rfl (fun c76 => ?_) (fun c76 => ?_)
        · skip
          refine zr_iload hO (hl := rfl) (j := 0) dX3_partner_83 ?_
          refine zr_cSi hO zw_X3_242 (c_X3_told (gmt g (24 * (n - 1) + i).toNat) (by omega) (by omega)) dX3_partner_85 rfl (rest := []) rfl ⟨Nat.le_of_ble_eq_true rfl, Nat.le_of_ble_eq_true rfl⟩ (Nat.le_of_ble_eq_true rfl) (Nat.le_refl _) (Nat.le_refl _) (fun x h hx => ?_)
          obtain ⟨hx, rfl⟩ := hx
          have hx : x = 100 * ((gmt g (24 * (n - 1) + i).toNat) / 24 + 1) + (gmt g (24 * (n - 1) + i).toNat) % 24 := hx
          subst hx
          exact zr_ireturn hO dX3_partner_88 ⟨(by rw [if_pos c52, if_neg (by omega)]; rfl), τ1, (((hs1.1 0 (by decide) (by decide)).trans rfl)), (((zCo.refl σ).uS (k := 0) (by decide) (if (zB ((1 ≤ n ∧ n ≤ g 0) ∧ (0 ≤ i ∧ i ≤ gln g n - 1))) = 0 then 1 else 2 - 2 * (zB (((1 ≤ n ∧ n ≤ g 0) ∧ (0 ≤ i ∧ i ≤ gln g n - 1)) ∧ (gch g n i = 123 ∨ gch g n i = 125))))).tr hs1), hf⟩
        · skip
          refine zr_iconst hO dX3_partner_79 ?_
          refine zr_goto hO (tgt := 88) dX3_partner_80 rfl ?_
          exact zr_ireturn hO dX3_partner_88 ⟨(by rw [if_pos c52, if_pos (by omega)]), τ1, (((hs1.1 0 (by decide) (by decide)).trans rfl)), (((zCo.refl σ).uS (k := 0) (by decide) (if (zB ((1 ≤ n ∧ n ≤ g 0) ∧ (0 ≤ i ∧ i ≤ gln g n - 1))) = 0 then 1 else 2 - 2 * (zB (((1 ≤ n ∧ n ≤ g 0) ∧ (0 ≤ i ∧ i ≤ gln g n - 1)) ∧ (gch g n i = 123 ∨ gch g n i = 125))))).tr hs1), hf⟩
      · skip
        have c52 := zB_eq c52
        refine zr_iconst hO dX3_partner_55 ?_
        exact zr_ireturn hO dX3_partner_56 ⟨(by rw [if_neg c52]), (zuS σ 0 (if (zB ((1 ≤ n ∧ n ≤ g 0) ∧ (0 ≤ i ∧ i ≤ gln g n - 1))) = 0 then 1 else 2 - 2 * (zB (((1 ≤ n ∧ n ≤ g 0) ∧ (0 ≤ i ∧ i ≤ gln g n - 1)) ∧ (gch g n i = 123 ∨ gch g n i = 125))))), (rfl), ((zCo.refl σ).uS (k := 0) (by decide) (if (zB ((1 ≤ n ∧ n ≤ g 0) ∧ (0 ≤ i ∧ i ≤ gln g n - 1))) = 0 then 1 else 2 - 2 * (zB (((1 ≤ n ∧ n ≤ g 0) ∧ (0 ≤ i ∧ i ≤ gln g n - 1)) ∧ (gch g n i = 123 ∨ gch g n i = 125))))), hf⟩
    refine zr_aload_n hO (hl := rfl) (j := 1) (hi := rfl) dX3_partner_29 ?_
    refine zr_iload_n hO (hl := rfl) (j := 0) (hi := rfl) dX3_partner_30 ?_
    refine zr_iload_n hO (hl := rfl) (j := 0) (hi := rfl) dX3_partner_31 ?_
    refine zr_if_eq hO (zR_B _) (tgt := 48) dX3_partner_32 rfl (fun c32 => ?_) (fun c32 => ?_)
    · skip
      have c32 := zB_eq c32
      refine zr_iconst hO dX3_partner_48 ?_
      exact hj49 0 ((zB_f (by omega)).symm) h hf
    · skip
      have c32 := zB_ne c32
      have w3n := w3 n (by omega) (by omega)
      refine zr_aload_n hO (hl := rfl) (j := 1) (hi := rfl) dX3_partner_35 ?_
      refine zr_iload_n hO (hl := rfl) (j := 2) (hi := rfl) dX3_partner_36 ?_
      refine zr_iload_n hO (hl := rfl) (j := 3) (hi := rfl) dX3_partner_37 ?_
      refine zr_cVi hO zc_X3 zw_X3_154 (c_X3_isBracket hI hf hg n i (by omega) (by omega) (by omega) (by omega)) dX3_partner_38 (zrd_of hf.1) rfl (rest := [zi (zB ((1 ≤ n ∧ n ≤ g 0) ∧ (0 ≤ i ∧ i ≤ gln g n - 1))), zp r]) rfl ⟨Nat.le_of_ble_eq_true rfl, Nat.le_of_ble_eq_true rfl⟩ (Nat.le_of_ble_eq_true rfl) (Nat.le_refl _) (Nat.le_refl _) (fun x h hx => ?_)
      obtain ⟨hx, hf⟩ := hx
      have hx : x = zB (gch g n i = 123 ∨ gch g n i = 125) := hx
      subst hx
      refine zr_if_eq hO (zR_B _) (tgt := 48) dX3_partner_41 rfl (fun c41 => ?_) (fun c41 => ?_)
      · skip
        have c41 := zB_eq c41
        refine zr_iconst hO dX3_partner_48 ?_
        exact hj49 0 ((zB_f (by omega)).symm) h hf
      · skip
        have c41 := zB_ne c41
        refine zr_iconst hO dX3_partner_44 ?_
        refine zr_goto hO (tgt := 49) dX3_partner_45 rfl ?_
        exact hj49 1 ((zB_t (by omega)).symm) h hf
  refine zr_aload_n hO (hl := rfl) (j := 0) (hi := rfl) dX3_partner_0 ?_
  refine zr_iload_n hO (hl := rfl) (j := 1) (hi := rfl) dX3_partner_1 ?_
  refine zr_cVi hO zc_X3 zw_X3_167 (c_X3_isLine hI hf hg n (⟨by omega, by omega⟩)) dX3_partner_2 (zrd_of hf.1) rfl (rest := []) rfl ⟨Nat.le_of_ble_eq_true rfl, Nat.le_of_ble_eq_true rfl⟩ (Nat.le_of_ble_eq_true rfl) (Nat.le_refl _) (Nat.le_refl _) (fun x h hx => ?_)
  obtain ⟨hx, hf⟩ := hx
  have hx : x = zB (1 ≤ n ∧ n ≤ g 0) := hx
  subst hx
  refine zr_if_eq hO (zR_B _) (tgt := 27) dX3_partner_5 rfl (fun c5 => ?_) (fun c5 => ?_)
  · skip
    have c5 := zB_eq c5
    refine zr_iconst hO dX3_partner_27 ?_
    exact hj28 0 ((zB_f (by omega)).symm) h hf
  · skip
    have c5 := zB_ne c5
    refine zr_iload_n hO (hl := rfl) (j := 2) (hi := rfl) dX3_partner_8 ?_
    have w3n := w3 n (by omega) (by omega)
    refine zr_iconst hO dX3_partner_9 ?_
    refine zr_aload_n hO (hl := rfl) (j := 0) (hi := rfl) dX3_partner_10 ?_
    refine zr_iload_n hO (hl := rfl) (j := 1) (hi := rfl) dX3_partner_11 ?_
    refine zr_cVi hO zc_X3 zw_X3_139 (c_X3_length hI hf hg n (by omega) (by omega)) dX3_partner_12 (zrd_of hf.1) rfl (rest := [zi 0, zi i]) rfl ⟨Nat.le_of_ble_eq_true rfl, Nat.le_of_ble_eq_true rfl⟩ (Nat.le_of_ble_eq_true rfl) (Nat.le_refl _) (Nat.le_refl _) (fun x h hx => ?_)
    obtain ⟨hx, ⟨r5a, r5b⟩, hf⟩ := hx
    have hx : x = gln g n := hx
    subst hx
    refine zr_iconst hO dX3_partner_15 ?_
    refine zr_isub hO dX3_partner_16 ?_
    refine zr_cSi hO zw_X3_95 (c_X3_in i 0 ((gln g n) - 1) (⟨by omega, by omega⟩) (⟨by omega, by omega⟩) (⟨by omega, by omega⟩)) dX3_partner_17 rfl (rest := []) rfl ⟨Nat.le_of_ble_eq_true rfl, Nat.le_of_ble_eq_true rfl⟩ (Nat.le_of_ble_eq_true rfl) (Nat.le_refl _) (Nat.le_refl _) (fun x h hx => ?_)
    obtain ⟨hx, rfl⟩ := hx
    have hx : x = zB (0 ≤ i ∧ i ≤ ((gln g n) - 1)) := hx
    subst hx
    refine zr_if_eq hO (zR_B _) (tgt := 27) dX3_partner_20 rfl (fun c20 => ?_) (fun c20 => ?_)
    · skip
      have c20 := zB_eq c20
      refine zr_iconst hO dX3_partner_27 ?_
      exact hj28 0 ((zB_f (by omega)).symm) h hf
    · skip
      have c20 := zB_ne c20
      refine zr_iconst hO dX3_partner_23 ?_
      refine zr_goto hO (tgt := 28) dX3_partner_24 rfl ?_
      exact hj28 1 ((zB_t (by omega)).symm) h hf
theorem c_X3_loose {G : zG} {r : Nat} {ad : Nat → Nat} {h0 : zHp} (hI : zRI r ad) {σ : zS} {h : zHp} (hf : zRf r ad σ h0 h) {g : Nat → Int} (hg : σ.2 1 = g) (u : Int) (hu : zR u) (hw : zwf g) : zC G yX3_loose cX3_loose 5 (some Jvm.ClassFile.FieldType.int) 4 88 0 0 [zp r, zi u] h (zPi (fun x h' => x = (if 0 ≤ u ∧ u ≤ gls g - 1 then (if glo g u = -1 then 0 else gto (glo g u)) else 0) ∧ ∃ τ : zS, τ.1 0 = (1 - zB (0 ≤ u ∧ u ≤ gls g - 1)) ∧ zCo σ τ ∧ zRf r ad τ h0 h') zNo) := by
  refine zC.of zpn_X3 (Nat.le_of_ble_eq_true rfl) (L := [(0, zp r), (1, zi u)]) rfl (fun K hO => ?_)
  obtain ⟨w1, w2, w3⟩ := id hw
  obtain ⟨hua, hub⟩ := hu
  have hgl := gls_in g
  refine zr_aload_n hO (hl := rfl) (j := 0) (hi := rfl) dX3_loose_0 ?_
  refine zr_cVv hO zc_X3 zw_X3_151 (c_X3_laysMates hI hf hg  (hw)) dX3_loose_1 (zrd_of hf.1) rfl (rest := []) rfl ⟨Nat.le_of_ble_eq_true rfl, Nat.le_of_ble_eq_true rfl⟩ (Nat.le_of_ble_eq_true rfl) (Nat.le_refl _) (Nat.le_refl _) (fun h hx => ?_)
  obtain ⟨τ1, hs1, hm1, hf⟩ := hx
  refine zr_aload_n hO (hl := rfl) (j := 0) (hi := rfl) dX3_loose_4 ?_
  refine zr_iload_n hO (hl := rfl) (j := 1) (hi := rfl) dX3_loose_5 ?_
  refine zr_iconst hO dX3_loose_6 ?_
  refine zr_aload_n hO (hl := rfl) (j := 0) (hi := rfl) dX3_loose_7 ?_
  refine zs_get hO hf 23 (x := τ1.1 23) dX3_loose_8 q2993 (Nat.le_of_ble_eq_true rfl) rfl (fun ⟨r1a, r1b⟩ => ?_)
  rw [show (τ1.1 23) = gls g from hm1.2]
  refine zr_iconst hO dX3_loose_11 ?_
  refine zr_isub hO dX3_loose_12 ?_
  refine zr_cSi hO zw_X3_95 (c_X3_in u 0 ((gls g) - 1) (⟨by omega, by omega⟩) (⟨by omega, by omega⟩) (⟨by omega, by omega⟩)) dX3_loose_13 rfl (rest := [zp r]) rfl ⟨Nat.le_of_ble_eq_true rfl, Nat.le_of_ble_eq_true rfl⟩ (Nat.le_of_ble_eq_true rfl) (Nat.le_refl _) (Nat.le_refl _) (fun x h hx => ?_)
  obtain ⟨hx, rfl⟩ := hx
  have hx : x = zB (0 ≤ u ∧ u ≤ ((gls g) - 1)) := hx
  subst hx
  refine zr_cVi hO zc_X3 zw_X3_111 (c_X3_may hI hf (zB (0 ≤ u ∧ u ≤ ((gls g) - 1))) (zB_01 _)) dX3_loose_16 (zrd_of hf.1) rfl (rest := []) rfl ⟨Nat.le_of_ble_eq_true rfl, Nat.le_of_ble_eq_true rfl⟩ (Nat.le_of_ble_eq_true rfl) (Nat.le_refl _) (Nat.le_refl _) (fun x h hx => ?_)
  obtain ⟨hx, hf⟩ := hx
  have hx : x = (zB (0 ≤ u ∧ u ≤ ((gls g) - 1))) := hx
  rw [hx]
  have hf : zRf r ad (zuS τ1 0 (1 - (zB (0 ≤ u ∧ u ≤ ((gls g) - 1))))) h0 h := hf
  refine zr_if_ne hO (zR_B _) (tgt := 24) dX3_loose_19 rfl (fun c19 => ?_) (fun c19 => ?_)
  · skip
    have c19 := zB_ne c19
    refine zr_iload_n hO (hl := rfl) (j := 1) (hi := rfl) dX3_loose_24 ?_
    refine zr_istore_n hO (L' := [(2, zi u), (0, zp r), (1, zi u)]) (hi := rfl) dX3_loose_25 (Nat.le_of_ble_eq_true rfl) rfl ?_
    refine zr_iconst hO dX3_loose_26 ?_
    refine zr_istore_n hO (L' := [(3, zi 1), (2, zi u), (0, zp r), (1, zi u)]) (hi := rfl) dX3_loose_27 (Nat.le_of_ble_eq_true rfl) rfl ?_
    have hl28 : ∀ (n9 : Nat) (n x : Int), (g 0 + 1 - n).toNat = n9 → ∀ (i1 : 1 ≤ n) (i2 : n ≤ g 0 + 1) (i3 : glo g u = znt (fun p => decide ((gpc g p.toNat = 123 ∨ gpc g p.toNat = 125) ∧ gmt g p.toNat = -1)) (1920 - (24 * (n - 1))).toNat (24 * (n - 1)) x) (i4 : 0 ≤ x ∧ x ≤ u) (h : zHp) (hf : zRf r ad (zuS τ1 0 (1 - (zB (0 ≤ u ∧ u ≤ ((gls g) - 1))))) h0 h), zV G K 0 0 h 28 [(0, zp r), (1, zi u), (2, zi x), (3, zi n)] [] := by
      intro n9
      induction n9 using Nat.strongRecOn with
      | _ n9 ih28 =>
      intro n x hn28 i1 i2 i3 i4 h hf
      refine zr_iload_n hO (hl := rfl) (j := 3) (hi := rfl) dX3_loose_28 ?_
      refine zr_aload_n hO (hl := rfl) (j := 0) (hi := rfl) dX3_loose_29 ?_
      refine zs_arr hO hf 1 dX3_loose_30 q2971 (Nat.le_of_ble_eq_true rfl) rfl ?_
      refine zr_iconst hO dX3_loose_33 ?_
      refine zs_ild hO hf 1 (f := g) (n := 2195) (j := 0) dX3_loose_34 rfl rfl rfl ((hs1.2 1 rfl).trans hg) (by omega) (by omega) rfl (fun ⟨r3a, r3b⟩ => ?_)
      refine zr_icmp_gt hO ⟨by omega, by omega⟩ ⟨by omega, by omega⟩ (tgt := 108) dX3_loose_35 rfl (fun c35 => ?_) (fun c35 => ?_)
      · skip
        have e9 : glo g u = -1 := by rw [i3]; exact znt_none (by omega) (fun m a b => decide_eq_false (fun q => by have := gpc_far (g := g) (p := m.toNat) (by omega); omega))
        refine zr_iconst hO dX3_loose_108 ?_
        exact zr_ireturn hO dX3_loose_109 ⟨(by rw [if_pos c19, e9, if_pos rfl]), (zuS τ1 0 (1 - (zB (0 ≤ u ∧ u ≤ ((gls g) - 1))))), (rfl), (((zCo.refl σ).tr hs1).uS (k := 0) (by decide) (1 - (zB (0 ≤ u ∧ u ≤ ((gls g) - 1))))), hf⟩
      · skip
        have w3n := w3 n (by omega) (by omega)
        refine zr_iconst hO dX3_loose_38 ?_
        refine zr_istore hO (L' := [(4, zi 0), (0, zp r), (1, zi u), (2, zi x), (3, zi n)]) dX3_loose_39 (Nat.le_of_ble_eq_true rfl) rfl ?_
        have hl41 : ∀ (n9 : Nat) (k x : Int), (gln g n - k).toNat = n9 → ∀ (j1 : 0 ≤ k) (j2 : k ≤ gln g n) (j3 : glo g u = znt (fun p => decide ((gpc g p.toNat = 123 ∨ gpc g p.toNat = 125) ∧ gmt g p.toNat = -1)) (1920 - (24 * (n - 1) + k)).toNat (24 * (n - 1) + k) x) (j4 : 0 ≤ x ∧ x ≤ u) (h : zHp) (hf : zRf r ad (zuS τ1 0 (1 - (zB (0 ≤ u ∧ u ≤ ((gls g) - 1))))) h0 h), zV G K 0 0 h 41 [(0, zp r), (1, zi u), (2, zi x), (3, zi n), (4, zi k)] [] := by
          intro n9
          induction n9 using Nat.strongRecOn with
          | _ n9 ih41 =>
          intro k x hn41 j1 j2 j3 j4 h hf
          refine zr_iload hO (hl := rfl) (j := 4) dX3_loose_41 ?_
          refine zr_aload_n hO (hl := rfl) (j := 0) (hi := rfl) dX3_loose_43 ?_
          refine zr_iload_n hO (hl := rfl) (j := 3) (hi := rfl) dX3_loose_44 ?_
          refine zr_cVi hO zc_X3 zw_X3_139 (c_X3_length hI hf ((hs1.2 1 rfl).trans hg) n (by omega) (by omega)) dX3_loose_45 (zrd_of hf.1) rfl (rest := [zi k]) rfl ⟨Nat.le_of_ble_eq_true rfl, Nat.le_of_ble_eq_true rfl⟩ (Nat.le_of_ble_eq_true rfl) (Nat.le_refl _) (Nat.le_refl _) (fun x h hx => ?_)
          obtain ⟨hx, ⟨r4a, r4b⟩, hf⟩ := hx
          have hx : x = gln g n := hx
          subst hx
          refine zr_icmp_ge hO ⟨by omega, by omega⟩ ⟨by omega, by omega⟩ (tgt := 102) dX3_loose_48 rfl (fun c48 => ?_) (fun c48 => ?_)
          · skip
            refine zr_iinc hO (L' := [(3, zi (n + 1)), (0, zp r), (1, zi u), (2, zi x), (4, zi k)]) (j := 3) dX3_loose_102 rfl (Nat.le_of_ble_eq_true rfl) rfl ?_
            refine zr_goto hO (tgt := 28) dX3_loose_105 rfl ?_
            refine zV.loc [1, 2, 3, 0] rfl ?_
            exact ih28 _ (by omega) (n + 1) x rfl (by omega) (by omega) (by rw [j3, show n + 1 - 1 = n by omega]; exact znt_skip (by omega) (by omega) (fun m a b => decide_eq_false (fun q => by have := gpc_off (g := g) (n := n) (p := m.toNat) i1 (by omega) (by omega) (by omega); omega))) (by omega) h hf
          · skip
            have hgp := gpc_in (g := g) (n := n) (i := k) (by omega) (by omega) (by omega) (by omega) (by omega)
            refine zr_aload_n hO (hl := rfl) (j := 0) (hi := rfl) dX3_loose_51 ?_
            refine zr_iload_n hO (hl := rfl) (j := 3) (hi := rfl) dX3_loose_52 ?_
            refine zr_iload hO (hl := rfl) (j := 4) dX3_loose_53 ?_
            refine zr_cVi hO zc_X3 zw_X3_154 (c_X3_isBracket hI hf ((hs1.2 1 rfl).trans hg) n k (by omega) (by omega) (by omega) (by omega)) dX3_loose_55 (zrd_of hf.1) rfl (rest := []) rfl ⟨Nat.le_of_ble_eq_true rfl, Nat.le_of_ble_eq_true rfl⟩ (Nat.le_of_ble_eq_true rfl) (Nat.le_refl _) (Nat.le_refl _) (fun x h hx => ?_)
            obtain ⟨hx, hf⟩ := hx
            have hx : x = zB (gch g n k = 123 ∨ gch g n k = 125) := hx
            subst hx
            refine zr_if_eq hO (zR_B _) (tgt := 96) dX3_loose_58 rfl (fun c58 => ?_) (fun c58 => ?_)
            · skip
              have c58 := zB_eq c58
              refine zr_iinc hO (L' := [(4, zi (k + 1)), (0, zp r), (1, zi u), (2, zi x), (3, zi n)]) (j := 4) dX3_loose_96 rfl (Nat.le_of_ble_eq_true rfl) rfl ?_
              refine zr_goto hO (tgt := 41) dX3_loose_99 rfl ?_
              refine zV.loc [1, 2, 3, 4, 0] rfl ?_
              exact ih41 _ (by omega) (k + 1) x rfl (by omega) (by omega) (by rw [j3, znt_s (N := 1920) (by omega) rfl, show 24 * (n - 1) + (k + 1) = 24 * (n - 1) + k + 1 by omega]; rw [if_neg (fun q => by have q := of_decide_eq_true q; omega)]) (by omega) h hf
            · skip
              have c58 := zB_ne c58
              refine zr_aload_n hO (hl := rfl) (j := 0) (hi := rfl) dX3_loose_61 ?_
              refine zs_arr hO hf 11 dX3_loose_62 q2981 (Nat.le_of_ble_eq_true rfl) rfl ?_
              refine zr_iload_n hO (hl := rfl) (j := 3) (hi := rfl) dX3_loose_65 ?_
              refine zr_iload hO (hl := rfl) (j := 4) dX3_loose_66 ?_
              refine zr_cSi hO zw_X3_142 (c_X3_place n k) dX3_loose_68 rfl (rest := [zp (ad 11)]) rfl ⟨Nat.le_of_ble_eq_true rfl, Nat.le_of_ble_eq_true rfl⟩ (Nat.le_of_ble_eq_true rfl) (Nat.le_refl _) (Nat.le_refl _) (fun x h hx => ?_)
              obtain ⟨hx, rfl⟩ := hx
              have hx : x = 24 * (n - 1) + k := hx
              subst hx
              refine zs_ild hO hf 11 (f := τ1.2 11) (n := 1920) (j := (24 * (n - 1) + k).toNat) dX3_loose_71 rfl rfl rfl rfl (by omega) (by omega) rfl (fun ⟨r6a, r6b⟩ => ?_)
              have hgt := gmt_in (g := g) (p := (24 * (n - 1) + k).toNat) (by omega) (by omega)
              rw [show ((τ1.2 11) ((24 * (n - 1) + k).toNat)) = gmt g (24 * (n - 1) + k).toNat from (hm1.1 _ (by omega))]
              refine zr_iconst hO dX3_loose_72 ?_
              refine zr_icmp_eq hO ⟨by omega, by omega⟩ ⟨by omega, by omega⟩ (tgt := 79) dX3_loose_73 rfl (fun c73 => ?_) (fun c73 => ?_)
              · skip
                refine zr_iload_n hO (hl := rfl) (j := 2) (hi := rfl) dX3_loose_79 ?_
                refine zr_if_ne hO ⟨by omega, by omega⟩ (tgt := 93) dX3_loose_80 rfl (fun c80 => ?_) (fun c80 => ?_)
                · skip
                  refine zr_iinc hO (L' := [(2, zi (x + (-1))), (0, zp r), (1, zi u), (3, zi n), (4, zi k)]) (j := 2) dX3_loose_93 rfl (Nat.le_of_ble_eq_true rfl) rfl ?_
                  refine zr_iinc hO (L' := [(4, zi (k + 1)), (2, zi (x + (-1))), (0, zp r), (1, zi u), (3, zi n)]) (j := 4) dX3_loose_96 rfl (Nat.le_of_ble_eq_true rfl) rfl ?_
                  refine zr_goto hO (tgt := 41) dX3_loose_99 rfl ?_
                  refine zV.loc [2, 3, 1, 4, 0] rfl ?_
                  exact ih41 _ (by omega) (k + 1) (x + (-1)) rfl (by omega) (by omega) (by rw [j3, znt_s (N := 1920) (by omega) rfl, show 24 * (n - 1) + (k + 1) = 24 * (n - 1) + k + 1 by omega]; rw [if_pos (decide_eq_true (by omega)), if_neg (by omega), show x - 1 = x + (-1) from rfl]) (by omega) h hf
                · skip
                  refine zr_iload_n hO (hl := rfl) (j := 3) (hi := rfl) dX3_loose_83 ?_
                  refine zr_iload hO (hl := rfl) (j := 4) dX3_loose_84 ?_
                  refine zr_cSi hO zw_X3_142 (c_X3_place n k) dX3_loose_86 rfl (rest := []) rfl ⟨Nat.le_of_ble_eq_true rfl, Nat.le_of_ble_eq_true rfl⟩ (Nat.le_of_ble_eq_true rfl) (Nat.le_refl _) (Nat.le_refl _) (fun x h hx => ?_)
                  obtain ⟨hx, rfl⟩ := hx
                  have hx : x = 24 * (n - 1) + k := hx
                  subst hx
                  refine zr_cSi hO zw_X3_242 (c_X3_told (24 * (n - 1) + k) (by omega) (by omega)) dX3_loose_89 rfl (rest := []) rfl ⟨Nat.le_of_ble_eq_true rfl, Nat.le_of_ble_eq_true rfl⟩ (Nat.le_of_ble_eq_true rfl) (Nat.le_refl _) (Nat.le_refl _) (fun x h hx => ?_)
                  obtain ⟨hx, rfl⟩ := hx
                  have hx : x = 100 * ((24 * (n - 1) + k) / 24 + 1) + (24 * (n - 1) + k) % 24 := hx
                  subst hx
                  have e9 : glo g u = 24 * (n - 1) + k := by rw [j3, znt_s (N := 1920) (by omega) rfl, if_pos (decide_eq_true (by omega)), if_pos (by omega)]
                  exact zr_ireturn hO dX3_loose_92 ⟨(by rw [if_pos c19, e9, if_neg (by omega)]; rfl), (zuS τ1 0 (1 - (zB (0 ≤ u ∧ u ≤ ((gls g) - 1))))), (rfl), (((zCo.refl σ).tr hs1).uS (k := 0) (by decide) (1 - (zB (0 ≤ u ∧ u ≤ ((gls g) - 1))))), hf⟩
              · skip
                refine zr_goto hO (tgt := 96) dX3_loose_76 rfl ?_
                refine zr_iinc hO (L' := [(4, zi (k + 1)), (0, zp r), (1, zi u), (2, zi x), (3, zi n)]) (j := 4) dX3_loose_96 rfl (Nat.le_of_ble_eq_true rfl) rfl ?_
                refine zr_goto hO (tgt := 41) dX3_loose_99 rfl ?_
                refine zV.loc [1, 2, 3, 4, 0] rfl ?_
                exact ih41 _ (by omega) (k + 1) x rfl (by omega) (by omega) (by rw [j3, znt_s (N := 1920) (by omega) rfl, show 24 * (n - 1) + (k + 1) = 24 * (n - 1) + k + 1 by omega]; rw [if_neg (fun q => by have q := of_decide_eq_true q; omega)]) (by omega) h hf
        refine zV.loc [1, 2, 3, 4, 0] rfl ?_
        exact hl41 _ 0 x rfl (by omega) (by omega) (by rw [i3, Int.add_zero]) (by omega) h hf
    refine zV.loc [2, 3, 1, 0] rfl ?_
    exact hl28 _ 1 u rfl (by omega) (by omega) (rfl) (by omega) h hf
  · skip
    have c19 := zB_eq c19
    refine zr_iconst hO dX3_loose_22 ?_
    exact zr_ireturn hO dX3_loose_23 ⟨(by rw [if_neg c19]), (zuS τ1 0 (1 - (zB (0 ≤ u ∧ u ≤ ((gls g) - 1))))), (rfl), (((zCo.refl σ).tr hs1).uS (k := 0) (by decide) (1 - (zB (0 ≤ u ∧ u ≤ ((gls g) - 1))))), hf⟩
theorem c_X3_outline {G : zG} {r : Nat} {ad : Nat → Nat} {h0 : zHp} (hI : zRI r ad) {σ : zS} {h : zHp} (hf : zRf r ad σ h0 h) {g : Nat → Int} (hg : σ.2 1 = g) (v : Int) (u : Int) (hv : zR v) (hu : zR u) (hw : zwf g) : zC G yX3_outline cX3_outline 5 (some Jvm.ClassFile.FieldType.int) 7 157 0 0 [zp r, zi v, zi u] h (zPi (fun x h' => x = (if gou g v u = -1 then 0 else gou g v u) ∧ ∃ τ : zS, τ.1 0 = (if gou g v u = -1 then 1 else 0) ∧ zCo σ τ ∧ zRf r ad τ h0 h') zNo) := by
  refine zC.of zpn_X3 (Nat.le_of_ble_eq_true rfl) (L := [(0, zp r), (1, zi v), (2, zi u)]) rfl (fun K hO => ?_)
  obtain ⟨w1, w2, w3⟩ := id hw
  obtain ⟨hva, hvb⟩ := hv
  obtain ⟨hua, hub⟩ := hu
  have hN := gN_le g
  refine zr_aload_n hO (hl := rfl) (j := 0) (hi := rfl) dX3_outline_0 ?_
  refine zr_cVv hO zc_X3 zw_X3_174 (c_X3_layAll hI hf hg  (hw)) dX3_outline_1 (zrd_of hf.1) rfl (rest := []) rfl ⟨Nat.le_of_ble_eq_true rfl, Nat.le_of_ble_eq_true rfl⟩ (Nat.le_of_ble_eq_true rfl) (Nat.le_refl _) (Nat.le_refl _) (fun h hx => ?_)
  obtain ⟨τ1, hs1, hd1, hf⟩ := hx
  refine zr_iload_n hO (hl := rfl) (j := 2) (hi := rfl) dX3_outline_4 ?_
  refine zr_istore_n hO (L' := [(3, zi u), (0, zp r), (1, zi v), (2, zi u)]) (hi := rfl) dX3_outline_5 (Nat.le_of_ble_eq_true rfl) rfl ?_
  refine zr_iconst hO dX3_outline_6 ?_
  refine zr_istore hO (L' := [(4, zi 0), (3, zi u), (0, zp r), (1, zi v), (2, zi u)]) dX3_outline_7 (Nat.le_of_ble_eq_true rfl) rfl ?_
  have hl9 : ∀ (n9 : Nat) (k x : Int), ((gN g : Int) - k).toNat = n9 → ∀ (i1 : 0 ≤ k) (i2 : k ≤ gN g) (i3 : gou g v u = znt (fun k => decide (gV g k.toNat = v)) ((gN g : Int) - k).toNat k x) (i4 : -1 ≤ x ∨ k = 0) (i5 : zR x) (h : zHp) (hf : zRf r ad τ1 h0 h), zV G K 0 0 h 9 [(0, zp r), (1, zi v), (2, zi u), (3, zi x), (4, zi k)] [] := by
    intro n9
    induction n9 using Nat.strongRecOn with
    | _ n9 ih9 =>
    intro k x hn9 i1 i2 i3 i4 i5 h hf
    obtain ⟨i5a, i5b⟩ := i5
    refine zr_iload hO (hl := rfl) (j := 4) dX3_outline_9 ?_
    refine zr_aload_n hO (hl := rfl) (j := 0) (hi := rfl) dX3_outline_11 ?_
    refine zs_get hO hf 22 (x := τ1.1 22) dX3_outline_12 q2992 (Nat.le_of_ble_eq_true rfl) rfl (fun ⟨r1a, r1b⟩ => ?_)
    rw [show (τ1.1 22) = (gN g : Int) from hd1.2.1.1]
    refine zr_icmp_ge hO ⟨by omega, by omega⟩ ⟨by omega, by omega⟩ (tgt := 57) dX3_outline_15 rfl (fun c15 => ?_) (fun c15 => ?_)
    · skip
      have e9 : gou g v u = -1 := by rw [i3]; first | (rw [znt_neg _ _ _ c19]; done) | (rw [show ((gN g : Int) - k).toNat = 0 by omega]; rfl)
      refine zr_aload_n hO (hl := rfl) (j := 0) (hi := rfl) dX3_outline_57 ?_
      refine zr_iconst hO dX3_outline_58 ?_
      refine zs_put hO hI hf 0 dX3_outline_59 q2970 (Nat.le_of_ble_eq_true rfl) rfl rfl rfl ⟨by omega, by omega⟩ (fun h hf => ?_)
      refine zr_iconst hO dX3_outline_62 ?_
      exact zr_ireturn hO dX3_outline_63 ⟨(by rw [e9, if_pos rfl]), (zuS τ1 0 1), (by rw [e9]; first | (rw [if_pos rfl]; exact rfl) | (rw [if_neg (by omega)]; exact rfl)), (((zCo.refl σ).tr hs1).uS (k := 0) (by decide) 1), hf⟩
    · skip
      refine zr_iload_n hO (hl := rfl) (j := 3) (hi := rfl) dX3_outline_18 ?_
      refine zr_if_lt hO ⟨by omega, by omega⟩ (tgt := 57) dX3_outline_19 rfl (fun c19 => ?_) (fun c19 => ?_)
      · skip
        have e9 : gou g v u = -1 := by rw [i3]; first | (rw [znt_neg _ _ _ c19]; done) | (rw [show ((gN g : Int) - k).toNat = 0 by omega]; rfl)
        refine zr_aload_n hO (hl := rfl) (j := 0) (hi := rfl) dX3_outline_57 ?_
        refine zr_iconst hO dX3_outline_58 ?_
        refine zs_put hO hI hf 0 dX3_outline_59 q2970 (Nat.le_of_ble_eq_true rfl) rfl rfl rfl ⟨by omega, by omega⟩ (fun h hf => ?_)
        refine zr_iconst hO dX3_outline_62 ?_
        exact zr_ireturn hO dX3_outline_63 ⟨(by rw [e9, if_pos rfl]), (zuS τ1 0 1), (by rw [e9]; first | (rw [if_pos rfl]; exact rfl) | (rw [if_neg (by omega)]; exact rfl)), (((zCo.refl σ).tr hs1).uS (k := 0) (by decide) 1), hf⟩
      · skip
        refine zr_aload_n hO (hl := rfl) (j := 0) (hi := rfl) dX3_outline_22 ?_
        refine zs_arr hO hf 18 dX3_outline_23 q2988 (Nat.le_of_ble_eq_true rfl) rfl ?_
        refine zr_iload hO (hl := rfl) (j := 4) dX3_outline_26 ?_
        refine zs_ild hO hf 18 (f := τ1.2 18) (n := 960) (j := k.toNat) dX3_outline_28 rfl rfl rfl rfl (by omega) (by omega) rfl (fun ⟨r2a, r2b⟩ => ?_)
        have hN := gN_le g
        have hrk := hd1.2.1.2 k.toNat (by omega)
        have hgk := g_rows hw (r := k.toNat) (by omega)
        refine zr_iload_n hO (hl := rfl) (j := 1) (hi := rfl) dX3_outline_29 ?_
        refine zr_icmp_eq hO ⟨by omega, by omega⟩ ⟨by omega, by omega⟩ (tgt := 36) dX3_outline_30 rfl (fun c30 => ?_) (fun c30 => ?_)
        · skip
          refine zr_iload_n hO (hl := rfl) (j := 3) (hi := rfl) dX3_outline_36 ?_
          refine zr_if_ne hO ⟨by omega, by omega⟩ (tgt := 48) dX3_outline_37 rfl (fun c37 => ?_) (fun c37 => ?_)
          · skip
            refine zr_iinc hO (L' := [(3, zi (x + (-1))), (0, zp r), (1, zi v), (2, zi u), (4, zi k)]) (j := 3) dX3_outline_48 rfl (Nat.le_of_ble_eq_true rfl) rfl ?_
            refine zr_iinc hO (L' := [(4, zi (k + 1)), (3, zi (x + (-1))), (0, zp r), (1, zi v), (2, zi u)]) (j := 4) dX3_outline_51 rfl (Nat.le_of_ble_eq_true rfl) rfl ?_
            refine zr_goto hO (tgt := 9) dX3_outline_54 rfl ?_
            refine zV.loc [2, 3, 4, 1, 0] rfl ?_
            exact ih9 _ (by omega) (k + 1) (x + (-1)) rfl (by omega) (by omega) (by rw [i3, znt_s (N := gN g) (by omega) rfl]; rw [if_pos (decide_eq_true (by omega)), if_neg (by omega), show x - 1 = x + (-1) from rfl]) (by omega) (⟨by omega, by omega⟩) h hf
          · skip
            refine zr_aload_n hO (hl := rfl) (j := 0) (hi := rfl) dX3_outline_40 ?_
            refine zr_iconst hO dX3_outline_41 ?_
            refine zs_put hO hI hf 0 dX3_outline_42 q2970 (Nat.le_of_ble_eq_true rfl) rfl rfl rfl ⟨by omega, by omega⟩ (fun h hf => ?_)
            have e9 : gou g v u = k := by rw [i3, znt_s (N := gN g) (by omega) rfl, if_pos (decide_eq_true (by omega)), if_pos c37]
            refine zr_iload hO (hl := rfl) (j := 4) dX3_outline_45 ?_
            exact zr_ireturn hO dX3_outline_47 ⟨(by rw [e9, if_neg (by omega)]), (zuS τ1 0 0), (by rw [e9]; first | (rw [if_pos rfl]; exact rfl) | (rw [if_neg (by omega)]; exact rfl)), (((zCo.refl σ).tr hs1).uS (k := 0) (by decide) 0), hf⟩
        · skip
          refine zr_goto hO (tgt := 51) dX3_outline_33 rfl ?_
          refine zr_iinc hO (L' := [(4, zi (k + 1)), (0, zp r), (1, zi v), (2, zi u), (3, zi x)]) (j := 4) dX3_outline_51 rfl (Nat.le_of_ble_eq_true rfl) rfl ?_
          refine zr_goto hO (tgt := 9) dX3_outline_54 rfl ?_
          refine zV.loc [1, 2, 3, 4, 0] rfl ?_
          exact ih9 _ (by omega) (k + 1) x rfl (by omega) (by omega) (by rw [i3, znt_s (N := gN g) (by omega) rfl]; rw [if_neg (fun q => by have q := of_decide_eq_true q; omega)]) (by omega) (⟨by omega, by omega⟩) h hf
  refine zV.loc [2, 3, 4, 1, 0] rfl ?_
  exact hl9 _ 0 u rfl (by omega) (by omega) (by unfold gou; rw [Int.sub_zero, Int.toNat_natCast]) (Or.inr rfl) (⟨by omega, by omega⟩) h hf
