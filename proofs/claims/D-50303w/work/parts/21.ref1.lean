/-! THE REFERENCE, its smallest methods (printed by gen/refs.py) -/
theorem c_X3_thrown {G : zG} {r : Nat} {ad : Nat → Nat} {h0 : zHp} (hI : zRI r ad) {σ : zS} {h : zHp} (hf : zRf r ad σ h0 h) : zC G yX3_thrown cX3_thrown 1 (some Jvm.ClassFile.FieldType.int) 0 0 0 0 [zp r] h (zPi (fun x h' => x = σ.1 0 ∧ zRf r ad σ h0 h') zNo) := by
  refine zC.of zpn_X3 (Nat.le_of_ble_eq_true rfl) (L := [(0, zp r)]) rfl (fun K hO => ?_)
  refine zr_aload_n hO (hl := rfl) (j := 0) (hi := rfl) dX3_thrown_0 ?_
  refine zs_get hO hf 0 (x := σ.1 0) dX3_thrown_1 q2970 (Nat.le_of_ble_eq_true rfl) rfl (fun ⟨r1a, r1b⟩ => ?_)
  exact zr_ireturn hO dX3_thrown_4 ⟨rfl, hf⟩
theorem c_X3_parseError {G : zG} {r : Nat} {ad : Nat → Nat} {h0 : zHp} (hI : zRI r ad) {σ : zS} {h : zHp} (hf : zRf r ad σ h0 h) : zC G yX3_parseError cX3_parseError 1 (some Jvm.ClassFile.FieldType.int) 0 0 0 0 [zp r] h (zPi (fun x h' => x = σ.1 9 ∧ zRf r ad (zuS σ 0 0) h0 h') zNo) := by
  refine zC.of zpn_X3 (Nat.le_of_ble_eq_true rfl) (L := [(0, zp r)]) rfl (fun K hO => ?_)
  refine zr_aload_n hO (hl := rfl) (j := 0) (hi := rfl) dX3_parseError_0 ?_
  refine zr_iconst hO dX3_parseError_1 ?_
  refine zs_put hO hI hf 0 dX3_parseError_2 q2970 (Nat.le_of_ble_eq_true rfl) rfl rfl rfl ⟨by omega, by omega⟩ (fun h hf => ?_)
  refine zr_aload_n hO (hl := rfl) (j := 0) (hi := rfl) dX3_parseError_5 ?_
  refine zs_get hO hf 9 (x := σ.1 9) dX3_parseError_6 q2979 (Nat.le_of_ble_eq_true rfl) rfl (fun ⟨r1a, r1b⟩ => ?_)
  exact zr_ireturn hO dX3_parseError_9 ⟨rfl, hf⟩
theorem c_X3_errorPosition {G : zG} {r : Nat} {ad : Nat → Nat} {h0 : zHp} (hI : zRI r ad) {σ : zS} {h : zHp} (hf : zRf r ad σ h0 h) : zC G yX3_errorPosition cX3_errorPosition 1 (some Jvm.ClassFile.FieldType.int) 0 0 0 0 [zp r] h (zPi (fun x h' => x = σ.1 10 ∧ zRf r ad (zuS σ 0 0) h0 h') zNo) := by
  refine zC.of zpn_X3 (Nat.le_of_ble_eq_true rfl) (L := [(0, zp r)]) rfl (fun K hO => ?_)
  refine zr_aload_n hO (hl := rfl) (j := 0) (hi := rfl) dX3_errorPosition_0 ?_
  refine zr_iconst hO dX3_errorPosition_1 ?_
  refine zs_put hO hI hf 0 dX3_errorPosition_2 q2970 (Nat.le_of_ble_eq_true rfl) rfl rfl rfl ⟨by omega, by omega⟩ (fun h hf => ?_)
  refine zr_aload_n hO (hl := rfl) (j := 0) (hi := rfl) dX3_errorPosition_5 ?_
  refine zs_get hO hf 10 (x := σ.1 10) dX3_errorPosition_6 q2980 (Nat.le_of_ble_eq_true rfl) rfl (fun ⟨r1a, r1b⟩ => ?_)
  exact zr_ireturn hO dX3_errorPosition_9 ⟨rfl, hf⟩
theorem c_X3_buffered {G : zG} {r : Nat} {ad : Nat → Nat} {h0 : zHp} (hI : zRI r ad) {σ : zS} {h : zHp} (hf : zRf r ad σ h0 h) : zC G yX3_buffered cX3_buffered 1 (some Jvm.ClassFile.FieldType.int) 0 0 0 0 [zp r] h (zPi (fun x h' => x = σ.1 8 ∧ zRf r ad (zuS σ 0 0) h0 h') zNo) := by
  refine zC.of zpn_X3 (Nat.le_of_ble_eq_true rfl) (L := [(0, zp r)]) rfl (fun K hO => ?_)
  refine zr_aload_n hO (hl := rfl) (j := 0) (hi := rfl) dX3_buffered_0 ?_
  refine zr_iconst hO dX3_buffered_1 ?_
  refine zs_put hO hI hf 0 dX3_buffered_2 q2970 (Nat.le_of_ble_eq_true rfl) rfl rfl rfl ⟨by omega, by omega⟩ (fun h hf => ?_)
  refine zr_aload_n hO (hl := rfl) (j := 0) (hi := rfl) dX3_buffered_5 ?_
  refine zs_get hO hf 8 (x := σ.1 8) dX3_buffered_6 q2978 (Nat.le_of_ble_eq_true rfl) rfl (fun ⟨r1a, r1b⟩ => ?_)
  exact zr_ireturn hO dX3_buffered_9 ⟨rfl, hf⟩
theorem c_X3_undoable {G : zG} {r : Nat} {ad : Nat → Nat} {h0 : zHp} (hI : zRI r ad) {σ : zS} {h : zHp} (hf : zRf r ad σ h0 h) : zC G yX3_undoable cX3_undoable 1 (some Jvm.ClassFile.FieldType.int) 0 0 0 0 [zp r] h (zPi (fun x h' => x = σ.1 6 ∧ zRf r ad (zuS σ 0 0) h0 h') zNo) := by
  refine zC.of zpn_X3 (Nat.le_of_ble_eq_true rfl) (L := [(0, zp r)]) rfl (fun K hO => ?_)
  refine zr_aload_n hO (hl := rfl) (j := 0) (hi := rfl) dX3_undoable_0 ?_
  refine zr_iconst hO dX3_undoable_1 ?_
  refine zs_put hO hI hf 0 dX3_undoable_2 q2970 (Nat.le_of_ble_eq_true rfl) rfl rfl rfl ⟨by omega, by omega⟩ (fun h hf => ?_)
  refine zr_aload_n hO (hl := rfl) (j := 0) (hi := rfl) dX3_undoable_5 ?_
  refine zs_get hO hf 6 (x := σ.1 6) dX3_undoable_6 q2976 (Nat.le_of_ble_eq_true rfl) rfl (fun ⟨r1a, r1b⟩ => ?_)
  exact zr_ireturn hO dX3_undoable_9 ⟨rfl, hf⟩
theorem c_X3_in {G : zG} {h : zHp} (v : Int) (a : Int) (b : Int) (h1 : zR v) (h2 : zR a) (h3 : zR b) : zC G yX3_in cX3_in 3 (some Jvm.ClassFile.FieldType.boolean) 0 0 0 0 [zi v, zi a, zi b] h (zPi (fun x h' => x = zB (a ≤ v ∧ v ≤ b) ∧ h' = h) zNo) := by
  refine zC.of zpn_X3 (Nat.le_of_ble_eq_true rfl) (L := [(0, zi v), (1, zi a), (2, zi b)]) rfl (fun K hO => ?_)
  obtain ⟨h1a, h1b⟩ := h1
  obtain ⟨h2a, h2b⟩ := h2
  obtain ⟨h3a, h3b⟩ := h3
  refine zr_iload_n hO (hl := rfl) (j := 0) (hi := rfl) dX3_in_0 ?_
  refine zr_iload_n hO (hl := rfl) (j := 1) (hi := rfl) dX3_in_1 ?_
  refine zr_icmp_lt hO ⟨by omega, by omega⟩ ⟨by omega, by omega⟩ (tgt := 14) dX3_in_2 rfl (fun c2 => ?_) (fun c2 => ?_)
  · skip
    refine zr_iconst hO dX3_in_14 ?_
    exact zr_zreturn hO (znz (Or.inl rfl)) dX3_in_15 ⟨(zB_f (by omega)).symm, rfl⟩
  · skip
    refine zr_iload_n hO (hl := rfl) (j := 0) (hi := rfl) dX3_in_5 ?_
    refine zr_iload_n hO (hl := rfl) (j := 2) (hi := rfl) dX3_in_6 ?_
    refine zr_icmp_gt hO ⟨by omega, by omega⟩ ⟨by omega, by omega⟩ (tgt := 14) dX3_in_7 rfl (fun c7 => ?_) (fun c7 => ?_)
    · skip
      refine zr_iconst hO dX3_in_14 ?_
      exact zr_zreturn hO (znz (Or.inl rfl)) dX3_in_15 ⟨(zB_f (by omega)).symm, rfl⟩
    · skip
      refine zr_iconst hO dX3_in_10 ?_
      refine zr_goto hO (tgt := 15) dX3_in_11 rfl ?_
      exact zr_zreturn hO (znz (Or.inr rfl)) dX3_in_15 ⟨(zB_t (by omega)).symm, rfl⟩
theorem zw_X3_95 : zYs RX3 95 yX3_in cX3_in 3 (some Jvm.ClassFile.FieldType.boolean) 3 := ⟨q3083, q3084, q116, q3085, ⟨by decide +kernel, by decide +kernel, by decide +kernel⟩⟩
theorem c_X3_isByte {G : zG} {h : zHp} (c : Int) (h1 : zR c) : zC G yX3_isByte cX3_isByte 1 (some Jvm.ClassFile.FieldType.boolean) 1 22 0 0 [zi c] h (zPi (fun x h' => x = zB ((32 ≤ c ∧ c ≤ 126) ∧ c ≠ 124) ∧ h' = h) zNo) := by
  refine zC.of zpn_X3 (Nat.le_of_ble_eq_true rfl) (L := [(0, zi c)]) rfl (fun K hO => ?_)
  obtain ⟨h1a, h1b⟩ := h1
  refine zr_iload_n hO (hl := rfl) (j := 0) (hi := rfl) dX3_isByte_0 ?_
  refine zr_bipush hO (by decide) dX3_isByte_1 ?_
  refine zr_bipush hO (by decide) dX3_isByte_3 ?_
  refine zr_cSi hO zw_X3_95 (c_X3_in c 32 126 (⟨by omega, by omega⟩) (⟨by omega, by omega⟩) (⟨by omega, by omega⟩)) dX3_isByte_5 rfl (rest := []) rfl ⟨Nat.le_of_ble_eq_true rfl, Nat.le_of_ble_eq_true rfl⟩ (Nat.le_of_ble_eq_true rfl) (Nat.le_refl _) (Nat.le_refl _) (fun x h hx => ?_)
  obtain ⟨hx, rfl⟩ := hx
  have hx : x = zB (32 ≤ c ∧ c ≤ 126) := hx
  subst hx
  refine zr_if_eq hO (zR_B _) (tgt := 21) dX3_isByte_8 rfl (fun c8 => ?_) (fun c8 => ?_)
  · skip
    have c8 := zB_eq c8
    refine zr_iconst hO dX3_isByte_21 ?_
    exact zr_zreturn hO (znz (Or.inl rfl)) dX3_isByte_22 ⟨(zB_f (by omega)).symm, rfl⟩
  · skip
    have c8 := zB_ne c8
    refine zr_iload_n hO (hl := rfl) (j := 0) (hi := rfl) dX3_isByte_11 ?_
    refine zr_bipush hO (by decide) dX3_isByte_12 ?_
    refine zr_icmp_eq hO ⟨by omega, by omega⟩ ⟨by omega, by omega⟩ (tgt := 21) dX3_isByte_14 rfl (fun c14 => ?_) (fun c14 => ?_)
    · skip
      refine zr_iconst hO dX3_isByte_21 ?_
      exact zr_zreturn hO (znz (Or.inl rfl)) dX3_isByte_22 ⟨(zB_f (by omega)).symm, rfl⟩
    · skip
      refine zr_iconst hO dX3_isByte_17 ?_
      refine zr_goto hO (tgt := 22) dX3_isByte_18 rfl ?_
      exact zr_zreturn hO (znz (Or.inr rfl)) dX3_isByte_22 ⟨(zB_t (by omega)).symm, rfl⟩
theorem c_X3_isLetter {G : zG} {h : zHp} (c : Int) (h1 : zR c) : zC G yX3_isLetter cX3_isLetter 1 (some Jvm.ClassFile.FieldType.boolean) 1 22 0 0 [zi c] h (zPi (fun x h' => x = zB (97 ≤ c ∧ c ≤ 122) ∧ h' = h) zNo) := by
  refine zC.of zpn_X3 (Nat.le_of_ble_eq_true rfl) (L := [(0, zi c)]) rfl (fun K hO => ?_)
  obtain ⟨h1a, h1b⟩ := h1
  refine zr_iload_n hO (hl := rfl) (j := 0) (hi := rfl) dX3_isLetter_0 ?_
  refine zr_bipush hO (by decide) dX3_isLetter_1 ?_
  refine zr_bipush hO (by decide) dX3_isLetter_3 ?_
  refine zr_cSi hO zw_X3_95 (c_X3_in c 97 122 (⟨by omega, by omega⟩) (⟨by omega, by omega⟩) (⟨by omega, by omega⟩)) dX3_isLetter_5 rfl (rest := []) rfl ⟨Nat.le_of_ble_eq_true rfl, Nat.le_of_ble_eq_true rfl⟩ (Nat.le_of_ble_eq_true rfl) (Nat.le_refl _) (Nat.le_refl _) (fun x h hx => ?_)
  obtain ⟨hx, rfl⟩ := hx
  have hx : x = zB (97 ≤ c ∧ c ≤ 122) := hx
  subst hx
  exact zr_zreturn hO (znz (zB_01 _)) dX3_isLetter_8 ⟨rfl, rfl⟩
theorem c_X3_isMarker {G : zG} {h : zHp} (m : Int) (h1 : zR m) : zC G yX3_isMarker cX3_isMarker 1 (some Jvm.ClassFile.FieldType.boolean) 1 22 0 0 [zi m] h (zPi (fun x h' => x = zB (0 ≤ m ∧ m ≤ 9) ∧ h' = h) zNo) := by
  refine zC.of zpn_X3 (Nat.le_of_ble_eq_true rfl) (L := [(0, zi m)]) rfl (fun K hO => ?_)
  obtain ⟨h1a, h1b⟩ := h1
  refine zr_iload_n hO (hl := rfl) (j := 0) (hi := rfl) dX3_isMarker_0 ?_
  refine zr_iconst hO dX3_isMarker_1 ?_
  refine zr_bipush hO (by decide) dX3_isMarker_2 ?_
  refine zr_cSi hO zw_X3_95 (c_X3_in m 0 9 (⟨by omega, by omega⟩) (⟨by omega, by omega⟩) (⟨by omega, by omega⟩)) dX3_isMarker_4 rfl (rest := []) rfl ⟨Nat.le_of_ble_eq_true rfl, Nat.le_of_ble_eq_true rfl⟩ (Nat.le_of_ble_eq_true rfl) (Nat.le_refl _) (Nat.le_refl _) (fun x h hx => ?_)
  obtain ⟨hx, rfl⟩ := hx
  have hx : x = zB (0 ≤ m ∧ m ≤ 9) := hx
  subst hx
  exact zr_zreturn hO (znz (zB_01 _)) dX3_isMarker_7 ⟨rfl, rfl⟩
theorem c_X3_may {G : zG} {r : Nat} {ad : Nat → Nat} {h0 : zHp} (hI : zRI r ad) {σ : zS} {h : zHp} (hf : zRf r ad σ h0 h) (b : Int) (hb : b = 0 ∨ b = 1) : zC G yX3_may cX3_may 2 (some Jvm.ClassFile.FieldType.boolean) 0 0 0 0 [zp r, zi b] h (zPi (fun x h' => x = b ∧ zRf r ad (zuS σ 0 (1 - b)) h0 h') zNo) := by
  refine zC.of zpn_X3 (Nat.le_of_ble_eq_true rfl) (L := [(0, zp r), (1, zi b)]) rfl (fun K hO => ?_)
  refine zr_aload_n hO (hl := rfl) (j := 0) (hi := rfl) dX3_may_0 ?_
  refine zr_iload_n hO (hl := rfl) (j := 1) (hi := rfl) dX3_may_1 ?_
  refine zr_if_eq hO ⟨by omega, by omega⟩ (tgt := 9) dX3_may_2 rfl (fun c2 => ?_) (fun c2 => ?_)
  · skip
    refine zr_iconst hO dX3_may_9 ?_
    refine zs_put hO hI hf 0 dX3_may_10 q2970 (Nat.le_of_ble_eq_true rfl) rfl rfl rfl ⟨by omega, by omega⟩ (fun h hf => ?_)
    refine zr_iload_n hO (hl := rfl) (j := 1) (hi := rfl) dX3_may_13 ?_
    exact zr_zreturn hO (znz hb) dX3_may_14 ⟨rfl, (by rw [show (1 : Int) - b = 1 by omega]; exact hf)⟩
  · skip
    refine zr_iconst hO dX3_may_5 ?_
    refine zr_goto hO (tgt := 10) dX3_may_6 rfl ?_
    refine zs_put hO hI hf 0 dX3_may_10 q2970 (Nat.le_of_ble_eq_true rfl) rfl rfl rfl ⟨by omega, by omega⟩ (fun h hf => ?_)
    refine zr_iload_n hO (hl := rfl) (j := 1) (hi := rfl) dX3_may_13 ?_
    exact zr_zreturn hO (znz hb) dX3_may_14 ⟨rfl, (by rw [show (1 : Int) - b = 0 by omega]; exact hf)⟩
theorem c_X3_mayBoth {G : zG} {r : Nat} {ad : Nat → Nat} {h0 : zHp} (hI : zRI r ad) {σ : zS} {h : zHp} (hf : zRf r ad σ h0 h) (a : Int) (b : Int) (ha : a = 0 ∨ a = 1) (hb : b = 0 ∨ b = 1) : zC G yX3_mayBoth cX3_mayBoth 3 (some Jvm.ClassFile.FieldType.boolean) 0 0 0 0 [zp r, zi a, zi b] h (zPi (fun x h' => x = zB (a = 1 ∧ b = 1) ∧ zRf r ad (zuS σ 0 (if a = 0 then 1 else 2 - 2 * b)) h0 h') zNo) := by
  refine zC.of zpn_X3 (Nat.le_of_ble_eq_true rfl) (L := [(0, zp r), (1, zi a), (2, zi b)]) rfl (fun K hO => ?_)
  refine zr_aload_n hO (hl := rfl) (j := 0) (hi := rfl) dX3_mayBoth_0 ?_
  refine zr_iload_n hO (hl := rfl) (j := 1) (hi := rfl) dX3_mayBoth_1 ?_
  refine zr_if_ne hO ⟨by omega, by omega⟩ (tgt := 9) dX3_mayBoth_2 rfl (fun c2 => ?_) (fun c2 => ?_)
  · skip
    refine zr_iload_n hO (hl := rfl) (j := 2) (hi := rfl) dX3_mayBoth_9 ?_
    refine zr_if_eq hO ⟨by omega, by omega⟩ (tgt := 17) dX3_mayBoth_10 rfl (fun c10 => ?_) (fun c10 => ?_)
    · skip
      refine zr_iconst hO dX3_mayBoth_17 ?_
      refine zs_put hO hI hf 0 dX3_mayBoth_18 q2970 (Nat.le_of_ble_eq_true rfl) rfl rfl rfl ⟨by omega, by omega⟩ (fun h hf => ?_)
      refine zr_aload_n hO (hl := rfl) (j := 0) (hi := rfl) dX3_mayBoth_21 ?_
      refine zs_get hO hf 0 (x := 2) dX3_mayBoth_22 q2970 (Nat.le_of_ble_eq_true rfl) rfl (fun ⟨r1a, r1b⟩ => ?_)
      refine zr_if_ne hO ⟨by omega, by omega⟩ (tgt := 32) dX3_mayBoth_25 rfl (fun c25 => ?_) (fun c25 => ?_)
      · skip
        refine zr_iconst hO dX3_mayBoth_32 ?_
        exact zr_zreturn hO (znz (Or.inl rfl)) dX3_mayBoth_33 ⟨(zB_f (by omega)).symm, (by rw [show (if a = 0 then 1 else 2 - 2 * b : Int) = 2 by split <;> omega]; exact hf)⟩
      · skip
        refine zr_iconst hO dX3_mayBoth_28 ?_
        refine zr_goto hO (tgt := 33) dX3_mayBoth_29 rfl ?_
        exact zr_zreturn hO (znz (Or.inr rfl)) dX3_mayBoth_33 ⟨(zB_t (by omega)).symm, (by rw [show (if a = 0 then 1 else 2 - 2 * b : Int) = 2 by split <;> omega]; exact hf)⟩
    · skip
      refine zr_iconst hO dX3_mayBoth_13 ?_
      refine zr_goto hO (tgt := 18) dX3_mayBoth_14 rfl ?_
      refine zs_put hO hI hf 0 dX3_mayBoth_18 q2970 (Nat.le_of_ble_eq_true rfl) rfl rfl rfl ⟨by omega, by omega⟩ (fun h hf => ?_)
      refine zr_aload_n hO (hl := rfl) (j := 0) (hi := rfl) dX3_mayBoth_21 ?_
      refine zs_get hO hf 0 (x := 0) dX3_mayBoth_22 q2970 (Nat.le_of_ble_eq_true rfl) rfl (fun ⟨r2a, r2b⟩ => ?_)
      refine zr_if_ne hO ⟨by omega, by omega⟩ (tgt := 32) dX3_mayBoth_25 rfl (fun c25 => ?_) (fun c25 => ?_)
      · skip
        refine zr_iconst hO dX3_mayBoth_32 ?_
        exact zr_zreturn hO (znz (Or.inl rfl)) dX3_mayBoth_33 ⟨(zB_f (by omega)).symm, (by rw [show (if a = 0 then 1 else 2 - 2 * b : Int) = 0 by split <;> omega]; exact hf)⟩
      · skip
        refine zr_iconst hO dX3_mayBoth_28 ?_
        refine zr_goto hO (tgt := 33) dX3_mayBoth_29 rfl ?_
        exact zr_zreturn hO (znz (Or.inr rfl)) dX3_mayBoth_33 ⟨(zB_t (by omega)).symm, (by rw [show (if a = 0 then 1 else 2 - 2 * b : Int) = 0 by split <;> omega]; exact hf)⟩
  · skip
    refine zr_iconst hO dX3_mayBoth_5 ?_
    refine zr_goto hO (tgt := 18) dX3_mayBoth_6 rfl ?_
    refine zs_put hO hI hf 0 dX3_mayBoth_18 q2970 (Nat.le_of_ble_eq_true rfl) rfl rfl rfl ⟨by omega, by omega⟩ (fun h hf => ?_)
    refine zr_aload_n hO (hl := rfl) (j := 0) (hi := rfl) dX3_mayBoth_21 ?_
    refine zs_get hO hf 0 (x := 1) dX3_mayBoth_22 q2970 (Nat.le_of_ble_eq_true rfl) rfl (fun ⟨r3a, r3b⟩ => ?_)
    refine zr_if_ne hO ⟨by omega, by omega⟩ (tgt := 32) dX3_mayBoth_25 rfl (fun c25 => ?_) (fun c25 => ?_)
    · skip
      refine zr_iconst hO dX3_mayBoth_32 ?_
      exact zr_zreturn hO (znz (Or.inl rfl)) dX3_mayBoth_33 ⟨(zB_f (by omega)).symm, (by rw [show (if a = 0 then 1 else 2 - 2 * b : Int) = 1 by split <;> omega]; exact hf)⟩
    · skip
      refine zr_iconst hO dX3_mayBoth_28 ?_
      refine zr_goto hO (tgt := 33) dX3_mayBoth_29 rfl ?_
      exact zr_zreturn hO (znz (Or.inr rfl)) dX3_mayBoth_33 ⟨(zB_t (by omega)).symm, (by rw [show (if a = 0 then 1 else 2 - 2 * b : Int) = 1 by split <;> omega]; exact hf)⟩
theorem c_X3_lineAt {G : zG} {h : zHp} (n : Int) : zC G yX3_lineAt cX3_lineAt 1 (some Jvm.ClassFile.FieldType.int) 0 0 0 0 [zi n] h (zPi (fun x h' => x = 35 + 27 * (n - 1) ∧ h' = h) zNo) := by
  refine zC.of zpn_X3 (Nat.le_of_ble_eq_true rfl) (L := [(0, zi n)]) rfl (fun K hO => ?_)
  refine zr_bipush hO (by decide) dX3_lineAt_0 ?_
  refine zr_bipush hO (by decide) dX3_lineAt_2 ?_
  refine zr_iload_n hO (hl := rfl) (j := 0) (hi := rfl) dX3_lineAt_4 ?_
  refine zr_iconst hO dX3_lineAt_5 ?_
  refine zr_isub hO dX3_lineAt_6 ?_
  refine zr_imul hO dX3_lineAt_7 ?_
  refine zr_iadd hO dX3_lineAt_8 ?_
  exact zr_ireturn hO dX3_lineAt_9 ⟨rfl, rfl⟩
theorem c_X3_place {G : zG} {h : zHp} (n : Int) (i : Int) : zC G yX3_place cX3_place 2 (some Jvm.ClassFile.FieldType.int) 0 0 0 0 [zi n, zi i] h (zPi (fun x h' => x = 24 * (n - 1) + i ∧ h' = h) zNo) := by
  refine zC.of zpn_X3 (Nat.le_of_ble_eq_true rfl) (L := [(0, zi n), (1, zi i)]) rfl (fun K hO => ?_)
  refine zr_bipush hO (by decide) dX3_place_0 ?_
  refine zr_iload_n hO (hl := rfl) (j := 0) (hi := rfl) dX3_place_2 ?_
  refine zr_iconst hO dX3_place_3 ?_
  refine zr_isub hO dX3_place_4 ?_
  refine zr_imul hO dX3_place_5 ?_
  refine zr_iload_n hO (hl := rfl) (j := 1) (hi := rfl) dX3_place_6 ?_
  refine zr_iadd hO dX3_place_7 ?_
  exact zr_ireturn hO dX3_place_8 ⟨rfl, rfl⟩
theorem c_X3_lineOf {G : zG} {h : zHp} (p : Int) (h1 : 0 ≤ p) (h2 : p ≤ 100000) : zC G yX3_lineOf cX3_lineOf 1 (some Jvm.ClassFile.FieldType.int) 0 0 0 0 [zi p] h (zPi (fun x h' => x = p / 24 + 1 ∧ h' = h) zNo) := by
  refine zC.of zpn_X3 (Nat.le_of_ble_eq_true rfl) (L := [(0, zi p)]) rfl (fun K hO => ?_)
  refine zr_iload_n hO (hl := rfl) (j := 0) (hi := rfl) dX3_lineOf_0 ?_
  refine zr_bipush hO (by decide) dX3_lineOf_1 ?_
  refine zr_idiv hO (by omega) (by omega) (by omega) (by omega) dX3_lineOf_3 ?_
  refine zr_iconst hO dX3_lineOf_4 ?_
  refine zr_iadd hO dX3_lineOf_5 ?_
  exact zr_ireturn hO dX3_lineOf_6 ⟨rfl, rfl⟩
theorem zw_X3_148 : zYs RX3 148 yX3_lineOf cX3_lineOf 1 (some Jvm.ClassFile.FieldType.int) 1 := ⟨q3158, q3159, q116, q3160, ⟨by decide +kernel, by decide +kernel, by decide +kernel⟩⟩
theorem c_X3_told {G : zG} {h : zHp} (p : Int) (h1 : 0 ≤ p) (h2 : p ≤ 100000) : zC G yX3_told cX3_told 1 (some Jvm.ClassFile.FieldType.int) 1 20 0 0 [zi p] h (zPi (fun x h' => x = 100 * (p / 24 + 1) + p % 24 ∧ h' = h) zNo) := by
  refine zC.of zpn_X3 (Nat.le_of_ble_eq_true rfl) (L := [(0, zi p)]) rfl (fun K hO => ?_)
  refine zr_bipush hO (by decide) dX3_told_0 ?_
  refine zr_iload_n hO (hl := rfl) (j := 0) (hi := rfl) dX3_told_2 ?_
  refine zr_cSi hO zw_X3_148 (c_X3_lineOf p (by omega) (by omega)) dX3_told_3 rfl (rest := [zi 100]) rfl ⟨Nat.le_of_ble_eq_true rfl, Nat.le_of_ble_eq_true rfl⟩ (Nat.le_of_ble_eq_true rfl) (Nat.le_refl _) (Nat.le_refl _) (fun x h hx => ?_)
  obtain ⟨hx, rfl⟩ := hx
  have hx : x = p / 24 + 1 := hx
  subst hx
  refine zr_imul hO dX3_told_6 ?_
  refine zr_iload_n hO (hl := rfl) (j := 0) (hi := rfl) dX3_told_7 ?_
  refine zr_bipush hO (by decide) dX3_told_8 ?_
  refine zr_irem hO (by omega) (by omega) (by omega) (by omega) dX3_told_10 ?_
  refine zr_iadd hO dX3_told_11 ?_
  exact zr_ireturn hO dX3_told_12 ⟨rfl, rfl⟩
theorem zw_X3_125 : zYs RX3 125 yX3_lineAt cX3_lineAt 1 (some Jvm.ClassFile.FieldType.int) 1 := ⟨q3144, q3145, q116, q3146, ⟨by decide +kernel, by decide +kernel, by decide +kernel⟩⟩
theorem c_X3_of {G : zG} {r : Nat} {ad : Nat → Nat} {h0 : zHp} (hI : zRI r ad) {σ : zS} {h : zHp} (hf : zRf r ad σ h0 h) {g : Nat → Int} (hg : σ.2 1 = g) (n : Int) (w : Int) (h1 : 0 ≤ 35 + 27 * (n - 1) + w) (h2 : 35 + 27 * (n - 1) + w < 2195) : zC G yX3_of cX3_of 3 (some Jvm.ClassFile.FieldType.int) 1 20 0 0 [zp r, zi n, zi w] h (zPi (fun x h' => x = gof g n w ∧ zR x ∧ zRf r ad σ h0 h') zNo) := by
  refine zC.of zpn_X3 (Nat.le_of_ble_eq_true rfl) (L := [(0, zp r), (1, zi n), (2, zi w)]) rfl (fun K hO => ?_)
  refine zr_aload_n hO (hl := rfl) (j := 0) (hi := rfl) dX3_of_0 ?_
  refine zs_arr hO hf 1 dX3_of_1 q2971 (Nat.le_of_ble_eq_true rfl) rfl ?_
  refine zr_iload_n hO (hl := rfl) (j := 1) (hi := rfl) dX3_of_4 ?_
  refine zr_cSi hO zw_X3_125 (c_X3_lineAt n) dX3_of_5 rfl (rest := [zp (ad 1)]) rfl ⟨Nat.le_of_ble_eq_true rfl, Nat.le_of_ble_eq_true rfl⟩ (Nat.le_of_ble_eq_true rfl) (Nat.le_refl _) (Nat.le_refl _) (fun x h hx => ?_)
  obtain ⟨hx, rfl⟩ := hx
  have hx : x = 35 + 27 * (n - 1) := hx
  subst hx
  refine zr_iload_n hO (hl := rfl) (j := 2) (hi := rfl) dX3_of_8 ?_
  refine zr_iadd hO dX3_of_9 ?_
  refine zs_ild hO hf 1 (f := g) (n := 2195) (j := ((35 + 27 * (n - 1)) + w).toNat) dX3_of_10 rfl rfl rfl hg (by omega) (by omega) rfl (fun ⟨r1a, r1b⟩ => ?_)
  exact zr_ireturn hO dX3_of_11 ⟨rfl, ⟨by omega, by omega⟩, hf⟩
theorem c_X3_isLine {G : zG} {r : Nat} {ad : Nat → Nat} {h0 : zHp} (hI : zRI r ad) {σ : zS} {h : zHp} (hf : zRf r ad σ h0 h) {g : Nat → Int} (hg : σ.2 1 = g) (n : Int) (h1 : zR n) : zC G yX3_isLine cX3_isLine 2 (some Jvm.ClassFile.FieldType.boolean) 1 22 0 0 [zp r, zi n] h (zPi (fun x h' => x = zB (1 ≤ n ∧ n ≤ g 0) ∧ zRf r ad σ h0 h') zNo) := by
  refine zC.of zpn_X3 (Nat.le_of_ble_eq_true rfl) (L := [(0, zp r), (1, zi n)]) rfl (fun K hO => ?_)
  obtain ⟨h1a, h1b⟩ := h1
  refine zr_iload_n hO (hl := rfl) (j := 1) (hi := rfl) dX3_isLine_0 ?_
  refine zr_iconst hO dX3_isLine_1 ?_
  refine zr_aload_n hO (hl := rfl) (j := 0) (hi := rfl) dX3_isLine_2 ?_
  refine zs_arr hO hf 1 dX3_isLine_3 q2971 (Nat.le_of_ble_eq_true rfl) rfl ?_
  refine zr_iconst hO dX3_isLine_6 ?_
  refine zs_ild hO hf 1 (f := g) (n := 2195) (j := 0) dX3_isLine_7 rfl rfl rfl hg (by omega) (by omega) rfl (fun ⟨r1a, r1b⟩ => ?_)
  refine zr_cSi hO zw_X3_95 (c_X3_in n 1 (g 0) (⟨by omega, by omega⟩) (⟨by omega, by omega⟩) (⟨by omega, by omega⟩)) dX3_isLine_8 rfl (rest := []) rfl ⟨Nat.le_of_ble_eq_true rfl, Nat.le_of_ble_eq_true rfl⟩ (Nat.le_of_ble_eq_true rfl) (Nat.le_refl _) (Nat.le_refl _) (fun x h hx => ?_)
  obtain ⟨hx, rfl⟩ := hx
  have hx : x = zB (1 ≤ n ∧ n ≤ (g 0)) := hx
  subst hx
  exact zr_zreturn hO (znz (zB_01 _)) dX3_isLine_11 ⟨rfl, hf⟩
theorem zw_X3_129 : zYw RX3 RX3 129 yX3_of cX3_of 3 (some Jvm.ClassFile.FieldType.int) 2 := ⟨q3140, q3142, qs56, q116, q3143, rfl, ⟨by decide +kernel, by decide +kernel, by decide +kernel⟩⟩
theorem c_X3_length {G : zG} {r : Nat} {ad : Nat → Nat} {h0 : zHp} (hI : zRI r ad) {σ : zS} {h : zHp} (hf : zRf r ad σ h0 h) {g : Nat → Int} (hg : σ.2 1 = g) (n : Int) (h1 : 1 ≤ n) (h2 : n ≤ 80) : zC G yX3_length cX3_length 2 (some Jvm.ClassFile.FieldType.int) 2 42 0 0 [zp r, zi n] h (zPi (fun x h' => x = gln g n ∧ zR x ∧ zRf r ad σ h0 h') zNo) := by
  refine zC.of zpn_X3 (Nat.le_of_ble_eq_true rfl) (L := [(0, zp r), (1, zi n)]) rfl (fun K hO => ?_)
  refine zr_aload_n hO (hl := rfl) (j := 0) (hi := rfl) dX3_length_0 ?_
  refine zr_iload_n hO (hl := rfl) (j := 1) (hi := rfl) dX3_length_1 ?_
  refine zr_iconst hO dX3_length_2 ?_
  refine zr_cVi hO zc_X3 zw_X3_129 (c_X3_of hI hf hg n 2 (by omega) (by omega)) dX3_length_3 (zrd_of hf.1) rfl (rest := []) rfl ⟨Nat.le_of_ble_eq_true rfl, Nat.le_of_ble_eq_true rfl⟩ (Nat.le_of_ble_eq_true rfl) (Nat.le_refl _) (Nat.le_refl _) (fun x h hx => ?_)
  obtain ⟨hx, ⟨r1a, r1b⟩, hf⟩ := hx
  have hx : x = gln g n := hx
  subst hx
  exact zr_ireturn hO dX3_length_6 ⟨rfl, ⟨by omega, by omega⟩, hf⟩
theorem c_X3_byteAt {G : zG} {r : Nat} {ad : Nat → Nat} {h0 : zHp} (hI : zRI r ad) {σ : zS} {h : zHp} (hf : zRf r ad σ h0 h) {g : Nat → Int} (hg : σ.2 1 = g) (n : Int) (i : Int) (h1 : 1 ≤ n) (h2 : n ≤ 80) (h3 : 0 ≤ i) (h4 : i < 24) : zC G yX3_byteAt cX3_byteAt 3 (some Jvm.ClassFile.FieldType.int) 2 42 0 0 [zp r, zi n, zi i] h (zPi (fun x h' => x = gch g n i ∧ zR x ∧ zRf r ad σ h0 h') zNo) := by
  refine zC.of zpn_X3 (Nat.le_of_ble_eq_true rfl) (L := [(0, zp r), (1, zi n), (2, zi i)]) rfl (fun K hO => ?_)
  refine zr_aload_n hO (hl := rfl) (j := 0) (hi := rfl) dX3_byteAt_0 ?_
  refine zr_iload_n hO (hl := rfl) (j := 1) (hi := rfl) dX3_byteAt_1 ?_
  refine zr_iconst hO dX3_byteAt_2 ?_
  refine zr_iload_n hO (hl := rfl) (j := 2) (hi := rfl) dX3_byteAt_3 ?_
  refine zr_iadd hO dX3_byteAt_4 ?_
  refine zr_cVi hO zc_X3 zw_X3_129 (c_X3_of hI hf hg n (3 + i) (by omega) (by omega)) dX3_byteAt_5 (zrd_of hf.1) rfl (rest := []) rfl ⟨Nat.le_of_ble_eq_true rfl, Nat.le_of_ble_eq_true rfl⟩ (Nat.le_of_ble_eq_true rfl) (Nat.le_refl _) (Nat.le_refl _) (fun x h hx => ?_)
  obtain ⟨hx, ⟨r1a, r1b⟩, hf⟩ := hx
  have hx : x = gch g n i := hx
  subst hx
  exact zr_ireturn hO dX3_byteAt_8 ⟨rfl, ⟨by omega, by omega⟩, hf⟩
theorem zw_X3_133 : zYw RX3 RX3 133 yX3_byteAt cX3_byteAt 3 (some Jvm.ClassFile.FieldType.int) 2 := ⟨q3150, q3152, qs57, q116, q3153, rfl, ⟨by decide +kernel, by decide +kernel, by decide +kernel⟩⟩
theorem c_X3_isBracket {G : zG} {r : Nat} {ad : Nat → Nat} {h0 : zHp} (hI : zRI r ad) {σ : zS} {h : zHp} (hf : zRf r ad σ h0 h) {g : Nat → Int} (hg : σ.2 1 = g) (n : Int) (i : Int) (h1 : 1 ≤ n) (h2 : n ≤ 80) (h3 : 0 ≤ i) (h4 : i < 24) : zC G yX3_isBracket cX3_isBracket 3 (some Jvm.ClassFile.FieldType.boolean) 3 64 0 0 [zp r, zi n, zi i] h (zPi (fun x h' => x = zB (gch g n i = 123 ∨ gch g n i = 125) ∧ zRf r ad σ h0 h') zNo) := by
  refine zC.of zpn_X3 (Nat.le_of_ble_eq_true rfl) (L := [(0, zp r), (1, zi n), (2, zi i)]) rfl (fun K hO => ?_)
  refine zr_aload_n hO (hl := rfl) (j := 0) (hi := rfl) dX3_isBracket_0 ?_
  refine zr_iload_n hO (hl := rfl) (j := 1) (hi := rfl) dX3_isBracket_1 ?_
  refine zr_iload_n hO (hl := rfl) (j := 2) (hi := rfl) dX3_isBracket_2 ?_
  refine zr_cVi hO zc_X3 zw_X3_133 (c_X3_byteAt hI hf hg n i (by omega) (by omega) (by omega) (by omega)) dX3_isBracket_3 (zrd_of hf.1) rfl (rest := []) rfl ⟨Nat.le_of_ble_eq_true rfl, Nat.le_of_ble_eq_true rfl⟩ (Nat.le_of_ble_eq_true rfl) (Nat.le_refl _) (Nat.le_refl _) (fun x h hx => ?_)
  obtain ⟨hx, ⟨r1a, r1b⟩, hf⟩ := hx
  have hx : x = gch g n i := hx
  subst hx
  refine zr_bipush hO (by decide) dX3_isBracket_6 ?_
  refine zr_icmp_eq hO ⟨by omega, by omega⟩ ⟨by omega, by omega⟩ (tgt := 22) dX3_isBracket_8 rfl (fun c8 => ?_) (fun c8 => ?_)
  · skip
    refine zr_iconst hO dX3_isBracket_22 ?_
    refine zr_goto hO (tgt := 27) dX3_isBracket_23 rfl ?_
    exact zr_zreturn hO (znz (Or.inr rfl)) dX3_isBracket_27 ⟨(zB_t (by omega)).symm, hf⟩
  · skip
    refine zr_aload_n hO (hl := rfl) (j := 0) (hi := rfl) dX3_isBracket_11 ?_
    refine zr_iload_n hO (hl := rfl) (j := 1) (hi := rfl) dX3_isBracket_12 ?_
    refine zr_iload_n hO (hl := rfl) (j := 2) (hi := rfl) dX3_isBracket_13 ?_
    refine zr_cVi hO zc_X3 zw_X3_133 (c_X3_byteAt hI hf hg n i (by omega) (by omega) (by omega) (by omega)) dX3_isBracket_14 (zrd_of hf.1) rfl (rest := []) rfl ⟨Nat.le_of_ble_eq_true rfl, Nat.le_of_ble_eq_true rfl⟩ (Nat.le_of_ble_eq_true rfl) (Nat.le_refl _) (Nat.le_refl _) (fun x h hx => ?_)
    obtain ⟨hx, ⟨r2a, r2b⟩, hf⟩ := hx
    have hx : x = gch g n i := hx
    subst hx
    refine zr_bipush hO (by decide) dX3_isBracket_17 ?_
    refine zr_icmp_ne hO ⟨by omega, by omega⟩ ⟨by omega, by omega⟩ (tgt := 26) dX3_isBracket_19 rfl (fun c19 => ?_) (fun c19 => ?_)
    · skip
      refine zr_iconst hO dX3_isBracket_26 ?_
      exact zr_zreturn hO (znz (Or.inl rfl)) dX3_isBracket_27 ⟨(zB_f (by omega)).symm, hf⟩
    · skip
      refine zr_iconst hO dX3_isBracket_22 ?_
      refine zr_goto hO (tgt := 27) dX3_isBracket_23 rfl ?_
      exact zr_zreturn hO (znz (Or.inr rfl)) dX3_isBracket_27 ⟨(zB_t (by omega)).symm, hf⟩
theorem c_X3_isFolded {G : zG} {r : Nat} {ad : Nat → Nat} {h0 : zHp} (hI : zRI r ad) {σ : zS} {h : zHp} (hf : zRf r ad σ h0 h) {g : Nat → Int} (hg : σ.2 1 = g) {F : Nat → Int} (hF : σ.2 14 = F) (k : Int) (h1 : 0 ≤ k) (h2 : k < 960) (h3 : 1 ≤ F k.toNat) (h4 : F k.toNat ≤ 80) : zC G yX3_isFolded cX3_isFolded 2 (some Jvm.ClassFile.FieldType.boolean) 2 42 0 0 [zp r, zi k] h (zPi (fun x h' => x = zB (gcl g (F k.toNat) = 1) ∧ zRf r ad σ h0 h') zNo) := by
  refine zC.of zpn_X3 (Nat.le_of_ble_eq_true rfl) (L := [(0, zp r), (1, zi k)]) rfl (fun K hO => ?_)
  refine zr_aload_n hO (hl := rfl) (j := 0) (hi := rfl) dX3_isFolded_0 ?_
  refine zr_aload_n hO (hl := rfl) (j := 0) (hi := rfl) dX3_isFolded_1 ?_
  refine zs_arr hO hf 14 dX3_isFolded_2 q2984 (Nat.le_of_ble_eq_true rfl) rfl ?_
  refine zr_iload_n hO (hl := rfl) (j := 1) (hi := rfl) dX3_isFolded_5 ?_
  refine zs_ild hO hf 14 (f := F) (n := 960) (j := k.toNat) dX3_isFolded_6 rfl rfl rfl hF (by omega) (by omega) rfl (fun ⟨r1a, r1b⟩ => ?_)
  refine zr_iconst hO dX3_isFolded_7 ?_
  refine zr_cVi hO zc_X3 zw_X3_129 (c_X3_of hI hf hg (F k.toNat) 1 (by omega) (by omega)) dX3_isFolded_8 (zrd_of hf.1) rfl (rest := []) rfl ⟨Nat.le_of_ble_eq_true rfl, Nat.le_of_ble_eq_true rfl⟩ (Nat.le_of_ble_eq_true rfl) (Nat.le_refl _) (Nat.le_refl _) (fun x h hx => ?_)
  obtain ⟨hx, ⟨r2a, r2b⟩, hf⟩ := hx
  have hx : x = gcl g (F k.toNat) := hx
  subst hx
  refine zr_iconst hO dX3_isFolded_11 ?_
  refine zr_icmp_ne hO ⟨by omega, by omega⟩ ⟨by omega, by omega⟩ (tgt := 19) dX3_isFolded_12 rfl (fun c12 => ?_) (fun c12 => ?_)
  · skip
    refine zr_iconst hO dX3_isFolded_19 ?_
    exact zr_zreturn hO (znz (Or.inl rfl)) dX3_isFolded_20 ⟨(zB_f (by assumption)).symm, hf⟩
  · skip
    refine zr_iconst hO dX3_isFolded_15 ?_
    refine zr_goto hO (tgt := 20) dX3_isFolded_16 rfl ?_
    exact zr_zreturn hO (znz (Or.inr rfl)) dX3_isFolded_20 ⟨(zB_t (by assumption)).symm, hf⟩
theorem c_X3_isInside {G : zG} {r : Nat} {ad : Nat → Nat} {h0 : zHp} (hI : zRI r ad) {σ : zS} {h : zHp} (hf : zRf r ad σ h0 h) {F : Nat → Int} (hF : σ.2 14 = F) {M : Nat → Int} (hM : σ.2 15 = M) (n : Int) (k : Int) (hn : zR n) (h1 : 0 ≤ k) (h2 : k < 960) : zC G yX3_isInside cX3_isInside 3 (some Jvm.ClassFile.FieldType.boolean) 0 0 0 0 [zp r, zi n, zi k] h (zPi (fun x h' => x = zB (F k.toNat < n ∧ n < M k.toNat) ∧ zRf r ad σ h0 h') zNo) := by
  refine zC.of zpn_X3 (Nat.le_of_ble_eq_true rfl) (L := [(0, zp r), (1, zi n), (2, zi k)]) rfl (fun K hO => ?_)
  obtain ⟨hna, hnb⟩ := hn
  refine zr_iload_n hO (hl := rfl) (j := 1) (hi := rfl) dX3_isInside_0 ?_
  refine zr_aload_n hO (hl := rfl) (j := 0) (hi := rfl) dX3_isInside_1 ?_
  refine zs_arr hO hf 14 dX3_isInside_2 q2984 (Nat.le_of_ble_eq_true rfl) rfl ?_
  refine zr_iload_n hO (hl := rfl) (j := 2) (hi := rfl) dX3_isInside_5 ?_
  refine zs_ild hO hf 14 (f := F) (n := 960) (j := k.toNat) dX3_isInside_6 rfl rfl rfl hF (by omega) (by omega) rfl (fun ⟨r1a, r1b⟩ => ?_)
  refine zr_icmp_le hO ⟨by omega, by omega⟩ ⟨by omega, by omega⟩ (tgt := 24) dX3_isInside_7 rfl (fun c7 => ?_) (fun c7 => ?_)
  · skip
    refine zr_iconst hO dX3_isInside_24 ?_
    exact zr_zreturn hO (znz (Or.inl rfl)) dX3_isInside_25 ⟨(zB_f (by omega)).symm, hf⟩
  · skip
    refine zr_iload_n hO (hl := rfl) (j := 1) (hi := rfl) dX3_isInside_10 ?_
    refine zr_aload_n hO (hl := rfl) (j := 0) (hi := rfl) dX3_isInside_11 ?_
    refine zs_arr hO hf 15 dX3_isInside_12 q2985 (Nat.le_of_ble_eq_true rfl) rfl ?_
    refine zr_iload_n hO (hl := rfl) (j := 2) (hi := rfl) dX3_isInside_15 ?_
    refine zs_ild hO hf 15 (f := M) (n := 960) (j := k.toNat) dX3_isInside_16 rfl rfl rfl hM (by omega) (by omega) rfl (fun ⟨r2a, r2b⟩ => ?_)
    refine zr_icmp_ge hO ⟨by omega, by omega⟩ ⟨by omega, by omega⟩ (tgt := 24) dX3_isInside_17 rfl (fun c17 => ?_) (fun c17 => ?_)
    · skip
      refine zr_iconst hO dX3_isInside_24 ?_
      exact zr_zreturn hO (znz (Or.inl rfl)) dX3_isInside_25 ⟨(zB_f (by omega)).symm, hf⟩
    · skip
      refine zr_iconst hO dX3_isInside_20 ?_
      refine zr_goto hO (tgt := 25) dX3_isInside_21 rfl ?_
      exact zr_zreturn hO (znz (Or.inr rfl)) dX3_isInside_25 ⟨(zB_t (by omega)).symm, hf⟩
theorem c_X3_numberOf {G : zG} {r : Nat} {ad : Nat → Nat} {h0 : zHp} (hI : zRI r ad) {σ : zS} {h : zHp} (hf : zRf r ad σ h0 h) {g : Nat → Int} (hg : σ.2 1 = g) (key : Int) (hn : zR key) (w1 : 0 ≤ g 0) (w2 : g 0 ≤ 80) : zC G yX3_numberOf cX3_numberOf 3 (some Jvm.ClassFile.FieldType.int) 2 42 0 0 [zp r, zi key] h (zPi (fun x h' => x = gnu g key ∧ zRf r ad σ h0 h') zNo) := by
  refine zC.of zpn_X3 (Nat.le_of_ble_eq_true rfl) (L := [(0, zp r), (1, zi key)]) rfl (fun K hO => ?_)
  obtain ⟨hna, hnb⟩ := hn
  refine zr_iconst hO dX3_numberOf_0 ?_
  refine zr_istore_n hO (L' := [(2, zi 1), (0, zp r), (1, zi key)]) (hi := rfl) dX3_numberOf_1 (Nat.le_of_ble_eq_true rfl) rfl ?_
  have hl2 : ∀ (n9 : Nat) (n : Int), (g 0 + 1 - n).toNat = n9 → ∀ (i1 : 1 ≤ n) (i2 : n ≤ g 0 + 1) (i3 : ∀ m, 1 ≤ m → m < n → gky g m ≠ key) (h : zHp) (hf : zRf r ad σ h0 h), zV G K 0 0 h 2 [(0, zp r), (1, zi key), (2, zi n)] [] := by
    intro n9
    induction n9 using Nat.strongRecOn with
    | _ n9 ih2 =>
    intro n hn2 i1 i2 i3 h hf
    refine zr_iload_n hO (hl := rfl) (j := 2) (hi := rfl) dX3_numberOf_2 ?_
    refine zr_aload_n hO (hl := rfl) (j := 0) (hi := rfl) dX3_numberOf_3 ?_
    refine zs_arr hO hf 1 dX3_numberOf_4 q2971 (Nat.le_of_ble_eq_true rfl) rfl ?_
    refine zr_iconst hO dX3_numberOf_7 ?_
    refine zs_ild hO hf 1 (f := g) (n := 2195) (j := 0) dX3_numberOf_8 rfl rfl rfl hg (by omega) (by omega) rfl (fun ⟨r1a, r1b⟩ => ?_)
    refine zr_icmp_gt hO ⟨by omega, by omega⟩ ⟨by omega, by omega⟩ (tgt := 30) dX3_numberOf_9 rfl (fun c9 => ?_) (fun c9 => ?_)
    · skip
      refine zr_iconst hO dX3_numberOf_30 ?_
      exact zr_ireturn hO dX3_numberOf_31 ⟨(zfd_miss (fun m a b => decide_eq_false (i3 m a (by omega)))).symm, hf⟩
    · skip
      refine zr_aload_n hO (hl := rfl) (j := 0) (hi := rfl) dX3_numberOf_12 ?_
      refine zr_iload_n hO (hl := rfl) (j := 2) (hi := rfl) dX3_numberOf_13 ?_
      refine zr_iconst hO dX3_numberOf_14 ?_
      refine zr_cVi hO zc_X3 zw_X3_129 (c_X3_of hI hf hg n 0 (by omega) (by omega)) dX3_numberOf_15 (zrd_of hf.1) rfl (rest := []) rfl ⟨Nat.le_of_ble_eq_true rfl, Nat.le_of_ble_eq_true rfl⟩ (Nat.le_of_ble_eq_true rfl) (Nat.le_refl _) (Nat.le_refl _) (fun x h hx => ?_)
      obtain ⟨hx, ⟨r2a, r2b⟩, hf⟩ := hx
      have hx : x = gky g n := hx
      subst hx
      refine zr_iload_n hO (hl := rfl) (j := 1) (hi := rfl) dX3_numberOf_18 ?_
      refine zr_icmp_ne hO ⟨by omega, by omega⟩ ⟨by omega, by omega⟩ (tgt := 24) dX3_numberOf_19 rfl (fun c19 => ?_) (fun c19 => ?_)
      · skip
        refine zr_iinc hO (L' := [(2, zi (n + 1)), (0, zp r), (1, zi key)]) (j := 2) dX3_numberOf_24 rfl (Nat.le_of_ble_eq_true rfl) rfl ?_
        refine zr_goto hO (tgt := 2) dX3_numberOf_27 rfl ?_
        refine zV.loc [1, 2, 0] rfl ?_
        exact ih2 _ (by omega) (n + 1) rfl (by omega) (by omega) (fun m a b => by by_cases e : m = n; (rw [e]; assumption); exact i3 m a (by omega)) h hf
      · skip
        refine zr_iload_n hO (hl := rfl) (j := 2) (hi := rfl) dX3_numberOf_22 ?_
        exact zr_ireturn hO dX3_numberOf_23 ⟨(zfd_hit i1 (by omega) (decide_eq_true (by assumption)) (fun m a b => decide_eq_false (i3 m a b))).symm, hf⟩
  refine zV.loc [1, 2, 0] rfl ?_
  exact hl2 _ 1 rfl (by omega) (by omega) (fun m a b => by omega) h hf
theorem c_X3_shownMany {G : zG} {r : Nat} {ad : Nat → Nat} {h0 : zHp} (hI : zRI r ad) {σ : zS} {h : zHp} (hf : zRf r ad σ h0 h) {g : Nat → Int} (hg : σ.2 1 = g) {H : Nat → Int} (hH : σ.2 21 = H) (w1 : 0 ≤ g 0) (w2 : g 0 ≤ 80) : zC G yX3_shownMany cX3_shownMany 3 (some Jvm.ClassFile.FieldType.int) 0 0 0 0 [zp r] h (zPi (fun x h' => x = gshn H (g 0) ∧ zRf r ad σ h0 h') zNo) := by
  refine zC.of zpn_X3 (Nat.le_of_ble_eq_true rfl) (L := [(0, zp r)]) rfl (fun K hO => ?_)
  refine zr_iconst hO dX3_shownMany_0 ?_
  refine zr_istore_n hO (L' := [(1, zi 0), (0, zp r)]) (hi := rfl) dX3_shownMany_1 (Nat.le_of_ble_eq_true rfl) rfl ?_
  refine zr_iconst hO dX3_shownMany_2 ?_
  refine zr_istore_n hO (L' := [(2, zi 1), (1, zi 0), (0, zp r)]) (hi := rfl) dX3_shownMany_3 (Nat.le_of_ble_eq_true rfl) rfl ?_
  have hl4 : ∀ (n9 : Nat) (n a : Int), (g 0 + 1 - n).toNat = n9 → ∀ (i1 : 1 ≤ n) (i2 : n ≤ g 0 + 1) (i3 : a = gshn H (n - 1)) (h : zHp) (hf : zRf r ad σ h0 h), zV G K 0 0 h 4 [(0, zp r), (1, zi a), (2, zi n)] [] := by
    intro n9
    induction n9 using Nat.strongRecOn with
    | _ n9 ih4 =>
    intro n a hn4 i1 i2 i3 h hf
    refine zr_iload_n hO (hl := rfl) (j := 2) (hi := rfl) dX3_shownMany_4 ?_
    refine zr_aload_n hO (hl := rfl) (j := 0) (hi := rfl) dX3_shownMany_5 ?_
    refine zs_arr hO hf 1 dX3_shownMany_6 q2971 (Nat.le_of_ble_eq_true rfl) rfl ?_
    refine zr_iconst hO dX3_shownMany_9 ?_
    refine zs_ild hO hf 1 (f := g) (n := 2195) (j := 0) dX3_shownMany_10 rfl rfl rfl hg (by omega) (by omega) rfl (fun ⟨r1a, r1b⟩ => ?_)
    refine zr_icmp_gt hO ⟨by omega, by omega⟩ ⟨by omega, by omega⟩ (tgt := 37) dX3_shownMany_11 rfl (fun c11 => ?_) (fun c11 => ?_)
    · skip
      refine zr_iload_n hO (hl := rfl) (j := 1) (hi := rfl) dX3_shownMany_37 ?_
      exact zr_ireturn hO dX3_shownMany_38 ⟨(by rw [i3, show n - 1 = g 0 by omega]), hf⟩
    · skip
      refine zr_iload_n hO (hl := rfl) (j := 1) (hi := rfl) dX3_shownMany_14 ?_
      refine zr_aload_n hO (hl := rfl) (j := 0) (hi := rfl) dX3_shownMany_15 ?_
      refine zs_arr hO hf 21 dX3_shownMany_16 q2991 (Nat.le_of_ble_eq_true rfl) rfl ?_
      refine zr_iload_n hO (hl := rfl) (j := 2) (hi := rfl) dX3_shownMany_19 ?_
      refine zs_zld hO hf 21 (f := H) (n := 82) (j := n.toNat) dX3_shownMany_20 rfl rfl rfl hH (by omega) (by omega) rfl (fun r2 => ?_)
      refine zr_if_eq hO ⟨by omega, by omega⟩ (tgt := 28) dX3_shownMany_21 rfl (fun c21 => ?_) (fun c21 => ?_)
      · skip
        refine zr_iconst hO dX3_shownMany_28 ?_
        refine zr_iadd hO dX3_shownMany_29 ?_
        refine zr_istore_n hO (L' := [(1, zi (a + 1)), (0, zp r), (2, zi n)]) (hi := rfl) dX3_shownMany_30 (Nat.le_of_ble_eq_true rfl) rfl ?_
        refine zr_iinc hO (L' := [(2, zi (n + 1)), (1, zi (a + 1)), (0, zp r)]) (j := 2) dX3_shownMany_31 rfl (Nat.le_of_ble_eq_true rfl) rfl ?_
        refine zr_goto hO (tgt := 4) dX3_shownMany_34 rfl ?_
        refine zV.loc [2, 1, 0] rfl ?_
        exact ih4 _ (by omega) (n + 1) (a + 1) rfl (by omega) (by omega) (by have e := gshn_p H i1; rw [show n + 1 - 1 = n by omega]; omega) h hf
      · skip
        refine zr_iconst hO dX3_shownMany_24 ?_
        refine zr_goto hO (tgt := 29) dX3_shownMany_25 rfl ?_
        refine zr_iadd hO dX3_shownMany_29 ?_
        refine zr_istore_n hO (L' := [(1, zi (a + 0)), (0, zp r), (2, zi n)]) (hi := rfl) dX3_shownMany_30 (Nat.le_of_ble_eq_true rfl) rfl ?_
        refine zr_iinc hO (L' := [(2, zi (n + 1)), (1, zi (a + 0)), (0, zp r)]) (j := 2) dX3_shownMany_31 rfl (Nat.le_of_ble_eq_true rfl) rfl ?_
        refine zr_goto hO (tgt := 4) dX3_shownMany_34 rfl ?_
        refine zV.loc [2, 1, 0] rfl ?_
        exact ih4 _ (by omega) (n + 1) (a + 0) rfl (by omega) (by omega) (by have e := gshn_p H i1; rw [show n + 1 - 1 = n by omega]; omega) h hf
  refine zV.loc [2, 1, 0] rfl ?_
  exact hl4 _ 1 0 rfl (by omega) (by omega) (rfl) h hf
theorem c_X3_rowOf {G : zG} {r : Nat} {ad : Nat → Nat} {h0 : zHp} (hI : zRI r ad) {σ : zS} {h : zHp} (hf : zRf r ad σ h0 h) {H : Nat → Int} (hH : σ.2 21 = H) (m : Int) (h1 : 0 ≤ m) (h2 : m ≤ 81) : zC G yX3_rowOf cX3_rowOf 4 (some Jvm.ClassFile.FieldType.int) 0 0 0 0 [zp r, zi m] h (zPi (fun x h' => x = gshn H m ∧ zRf r ad σ h0 h') zNo) := by
  refine zC.of zpn_X3 (Nat.le_of_ble_eq_true rfl) (L := [(0, zp r), (1, zi m)]) rfl (fun K hO => ?_)
  refine zr_iconst hO dX3_rowOf_0 ?_
  refine zr_istore_n hO (L' := [(2, zi 0), (0, zp r), (1, zi m)]) (hi := rfl) dX3_rowOf_1 (Nat.le_of_ble_eq_true rfl) rfl ?_
  refine zr_iconst hO dX3_rowOf_2 ?_
  refine zr_istore_n hO (L' := [(3, zi 1), (2, zi 0), (0, zp r), (1, zi m)]) (hi := rfl) dX3_rowOf_3 (Nat.le_of_ble_eq_true rfl) rfl ?_
  have hl4 : ∀ (n9 : Nat) (n a : Int), (m + 1 - n).toNat = n9 → ∀ (i1 : 1 ≤ n) (i2 : n ≤ m + 1) (i3 : a = gshn H (n - 1)) (h : zHp) (hf : zRf r ad σ h0 h), zV G K 0 0 h 4 [(0, zp r), (1, zi m), (2, zi a), (3, zi n)] [] := by
    intro n9
    induction n9 using Nat.strongRecOn with
    | _ n9 ih4 =>
    intro n a hn4 i1 i2 i3 h hf
    refine zr_iload_n hO (hl := rfl) (j := 3) (hi := rfl) dX3_rowOf_4 ?_
    refine zr_iload_n hO (hl := rfl) (j := 1) (hi := rfl) dX3_rowOf_5 ?_
    refine zr_icmp_gt hO ⟨by omega, by omega⟩ ⟨by omega, by omega⟩ (tgt := 32) dX3_rowOf_6 rfl (fun c6 => ?_) (fun c6 => ?_)
    · skip
      refine zr_iload_n hO (hl := rfl) (j := 2) (hi := rfl) dX3_rowOf_32 ?_
      exact zr_ireturn hO dX3_rowOf_33 ⟨(by rw [i3, show n - 1 = m by omega]), hf⟩
    · skip
      refine zr_iload_n hO (hl := rfl) (j := 2) (hi := rfl) dX3_rowOf_9 ?_
      refine zr_aload_n hO (hl := rfl) (j := 0) (hi := rfl) dX3_rowOf_10 ?_
      refine zs_arr hO hf 21 dX3_rowOf_11 q2991 (Nat.le_of_ble_eq_true rfl) rfl ?_
      refine zr_iload_n hO (hl := rfl) (j := 3) (hi := rfl) dX3_rowOf_14 ?_
      refine zs_zld hO hf 21 (f := H) (n := 82) (j := n.toNat) dX3_rowOf_15 rfl rfl rfl hH (by omega) (by omega) rfl (fun r1 => ?_)
      refine zr_if_eq hO ⟨by omega, by omega⟩ (tgt := 23) dX3_rowOf_16 rfl (fun c16 => ?_) (fun c16 => ?_)
      · skip
        refine zr_iconst hO dX3_rowOf_23 ?_
        refine zr_iadd hO dX3_rowOf_24 ?_
        refine zr_istore_n hO (L' := [(2, zi (a + 1)), (0, zp r), (1, zi m), (3, zi n)]) (hi := rfl) dX3_rowOf_25 (Nat.le_of_ble_eq_true rfl) rfl ?_
        refine zr_iinc hO (L' := [(3, zi (n + 1)), (2, zi (a + 1)), (0, zp r), (1, zi m)]) (j := 3) dX3_rowOf_26 rfl (Nat.le_of_ble_eq_true rfl) rfl ?_
        refine zr_goto hO (tgt := 4) dX3_rowOf_29 rfl ?_
        refine zV.loc [2, 3, 1, 0] rfl ?_
        exact ih4 _ (by omega) (n + 1) (a + 1) rfl (by omega) (by omega) (by have e := gshn_p H i1; rw [show n + 1 - 1 = n by omega]; omega) h hf
      · skip
        refine zr_iconst hO dX3_rowOf_19 ?_
        refine zr_goto hO (tgt := 24) dX3_rowOf_20 rfl ?_
        refine zr_iadd hO dX3_rowOf_24 ?_
        refine zr_istore_n hO (L' := [(2, zi (a + 0)), (0, zp r), (1, zi m), (3, zi n)]) (hi := rfl) dX3_rowOf_25 (Nat.le_of_ble_eq_true rfl) rfl ?_
        refine zr_iinc hO (L' := [(3, zi (n + 1)), (2, zi (a + 0)), (0, zp r), (1, zi m)]) (j := 3) dX3_rowOf_26 rfl (Nat.le_of_ble_eq_true rfl) rfl ?_
        refine zr_goto hO (tgt := 4) dX3_rowOf_29 rfl ?_
        refine zV.loc [2, 3, 1, 0] rfl ?_
        exact ih4 _ (by omega) (n + 1) (a + 0) rfl (by omega) (by omega) (by have e := gshn_p H i1; rw [show n + 1 - 1 = n by omega]; omega) h hf
  refine zV.loc [2, 3, 1, 0] rfl ?_
  exact hl4 _ 1 0 rfl (by omega) (by omega) (rfl) h hf
theorem c_X3_hiddenBehind {G : zG} {r : Nat} {ad : Nat → Nat} {h0 : zHp} (hI : zRI r ad) {σ : zS} {h : zHp} (hf : zRf r ad σ h0 h) {g : Nat → Int} (hg : σ.2 1 = g) {H : Nat → Int} (hH : σ.2 21 = H) (m : Int) (h1 : 1 ≤ m) (h2 : m ≤ g 0) (w1 : 0 ≤ g 0) (w2 : g 0 ≤ 80) : zC G yX3_hiddenBehind cX3_hiddenBehind 3 (some Jvm.ClassFile.FieldType.int) 0 0 0 0 [zp r, zi m] h (zPi (fun x h' => x = ghb H (g 0) m ∧ zRf r ad σ h0 h') zNo) := by
  refine zC.of zpn_X3 (Nat.le_of_ble_eq_true rfl) (L := [(0, zp r), (1, zi m)]) rfl (fun K hO => ?_)
  refine zr_iload_n hO (hl := rfl) (j := 1) (hi := rfl) dX3_hiddenBehind_0 ?_
  refine zr_iconst hO dX3_hiddenBehind_1 ?_
  refine zr_iadd hO dX3_hiddenBehind_2 ?_
  refine zr_istore_n hO (L' := [(2, zi (m + 1)), (0, zp r), (1, zi m)]) (hi := rfl) dX3_hiddenBehind_3 (Nat.le_of_ble_eq_true rfl) rfl ?_
  have hl4 : ∀ (n9 : Nat) (n : Int), (g 0 + 1 - n).toNat = n9 → ∀ (i1 : m + 1 ≤ n) (i2 : n ≤ g 0 + 1) (i3 : H m.toNat = 1 → n = m + 1) (i4 : ∀ k, m + 1 ≤ k → k < n → H k.toNat = 1) (h : zHp) (hf : zRf r ad σ h0 h), zV G K 0 0 h 4 [(0, zp r), (1, zi m), (2, zi n)] [] := by
    intro n9
    induction n9 using Nat.strongRecOn with
    | _ n9 ih4 =>
    intro n hn4 i1 i2 i3 i4 h hf
    refine zr_aload_n hO (hl := rfl) (j := 0) (hi := rfl) dX3_hiddenBehind_4 ?_
    refine zs_arr hO hf 21 dX3_hiddenBehind_5 q2991 (Nat.le_of_ble_eq_true rfl) rfl ?_
    refine zr_iload_n hO (hl := rfl) (j := 1) (hi := rfl) dX3_hiddenBehind_8 ?_
    refine zs_zld hO hf 21 (f := H) (n := 82) (j := m.toNat) dX3_hiddenBehind_9 rfl rfl rfl hH (by omega) (by omega) rfl (fun r1 => ?_)
    refine zr_if_ne hO ⟨by omega, by omega⟩ (tgt := 38) dX3_hiddenBehind_10 rfl (fun c10 => ?_) (fun c10 => ?_)
    · skip
      refine zr_iload_n hO (hl := rfl) (j := 2) (hi := rfl) dX3_hiddenBehind_38 ?_
      refine zr_iload_n hO (hl := rfl) (j := 1) (hi := rfl) dX3_hiddenBehind_39 ?_
      refine zr_isub hO dX3_hiddenBehind_40 ?_
      refine zr_iconst hO dX3_hiddenBehind_41 ?_
      refine zr_isub hO dX3_hiddenBehind_42 ?_
      exact zr_ireturn hO dX3_hiddenBehind_43 ⟨(ghb_eq i1 i2 i3 i4 (by omega)).symm, hf⟩
    · skip
      refine zr_iload_n hO (hl := rfl) (j := 2) (hi := rfl) dX3_hiddenBehind_13 ?_
      refine zr_aload_n hO (hl := rfl) (j := 0) (hi := rfl) dX3_hiddenBehind_14 ?_
      refine zs_arr hO hf 1 dX3_hiddenBehind_15 q2971 (Nat.le_of_ble_eq_true rfl) rfl ?_
      refine zr_iconst hO dX3_hiddenBehind_18 ?_
      refine zs_ild hO hf 1 (f := g) (n := 2195) (j := 0) dX3_hiddenBehind_19 rfl rfl rfl hg (by omega) (by omega) rfl (fun ⟨r2a, r2b⟩ => ?_)
      refine zr_icmp_gt hO ⟨by omega, by omega⟩ ⟨by omega, by omega⟩ (tgt := 38) dX3_hiddenBehind_20 rfl (fun c20 => ?_) (fun c20 => ?_)
      · skip
        refine zr_iload_n hO (hl := rfl) (j := 2) (hi := rfl) dX3_hiddenBehind_38 ?_
        refine zr_iload_n hO (hl := rfl) (j := 1) (hi := rfl) dX3_hiddenBehind_39 ?_
        refine zr_isub hO dX3_hiddenBehind_40 ?_
        refine zr_iconst hO dX3_hiddenBehind_41 ?_
        refine zr_isub hO dX3_hiddenBehind_42 ?_
        exact zr_ireturn hO dX3_hiddenBehind_43 ⟨(ghb_eq i1 i2 i3 i4 (by omega)).symm, hf⟩
      · skip
        refine zr_aload_n hO (hl := rfl) (j := 0) (hi := rfl) dX3_hiddenBehind_23 ?_
        refine zs_arr hO hf 21 dX3_hiddenBehind_24 q2991 (Nat.le_of_ble_eq_true rfl) rfl ?_
        refine zr_iload_n hO (hl := rfl) (j := 2) (hi := rfl) dX3_hiddenBehind_27 ?_
        refine zs_zld hO hf 21 (f := H) (n := 82) (j := n.toNat) dX3_hiddenBehind_28 rfl rfl rfl hH (by omega) (by omega) rfl (fun r3 => ?_)
        refine zr_if_eq hO ⟨by omega, by omega⟩ (tgt := 38) dX3_hiddenBehind_29 rfl (fun c29 => ?_) (fun c29 => ?_)
        · skip
          refine zr_iload_n hO (hl := rfl) (j := 2) (hi := rfl) dX3_hiddenBehind_38 ?_
          refine zr_iload_n hO (hl := rfl) (j := 1) (hi := rfl) dX3_hiddenBehind_39 ?_
          refine zr_isub hO dX3_hiddenBehind_40 ?_
          refine zr_iconst hO dX3_hiddenBehind_41 ?_
          refine zr_isub hO dX3_hiddenBehind_42 ?_
          exact zr_ireturn hO dX3_hiddenBehind_43 ⟨(ghb_eq i1 i2 i3 i4 (by omega)).symm, hf⟩
        · skip
          refine zr_iinc hO (L' := [(2, zi (n + 1)), (0, zp r), (1, zi m)]) (j := 2) dX3_hiddenBehind_32 rfl (Nat.le_of_ble_eq_true rfl) rfl ?_
          refine zr_goto hO (tgt := 4) dX3_hiddenBehind_35 rfl ?_
          refine zV.loc [1, 2, 0] rfl ?_
          exact ih4 _ (by omega) (n + 1) rfl (by omega) (by omega) (fun e => by omega) (fun k a b => by by_cases e : k = n; (rw [e]; omega); exact i4 k a (by omega)) h hf
  refine zV.loc [1, 2, 0] rfl ?_
  exact hl4 _ (m + 1) rfl (by omega) (by omega) (fun _ => rfl) (fun k a b => by omega) h hf
theorem c_X3_beginsAt {G : zG} {r : Nat} {ad : Nat → Nat} {h0 : zHp} (hI : zRI r ad) {σ : zS} {h : zHp} (hf : zRf r ad σ h0 h) {F : Nat → Int} (hF : σ.2 14 = F) {q : Int} (hq : σ.1 22 = q) (n : Int) (h1 : zR n) (h2 : 0 ≤ q) (h3 : q ≤ 960) : zC G yX3_beginsAt cX3_beginsAt 4 (some Jvm.ClassFile.FieldType.int) 0 0 0 0 [zp r, zi n] h (zPi (fun x h' => x = gbgn F n q ∧ zRf r ad σ h0 h') zNo) := by
  refine zC.of zpn_X3 (Nat.le_of_ble_eq_true rfl) (L := [(0, zp r), (1, zi n)]) rfl (fun K hO => ?_)
  obtain ⟨h1a, h1b⟩ := h1
  refine zr_iconst hO dX3_beginsAt_0 ?_
  refine zr_istore_n hO (L' := [(2, zi 0), (0, zp r), (1, zi n)]) (hi := rfl) dX3_beginsAt_1 (Nat.le_of_ble_eq_true rfl) rfl ?_
  refine zr_iconst hO dX3_beginsAt_2 ?_
  refine zr_istore_n hO (L' := [(3, zi 0), (2, zi 0), (0, zp r), (1, zi n)]) (hi := rfl) dX3_beginsAt_3 (Nat.le_of_ble_eq_true rfl) rfl ?_
  have hl4 : ∀ (n9 : Nat) (k a : Int), (q - k).toNat = n9 → ∀ (i1 : 0 ≤ k) (i2 : k ≤ q) (i3 : a = gbgn F n k) (h : zHp) (hf : zRf r ad σ h0 h), zV G K 0 0 h 4 [(0, zp r), (1, zi n), (2, zi a), (3, zi k)] [] := by
    intro n9
    induction n9 using Nat.strongRecOn with
    | _ n9 ih4 =>
    intro k a hn4 i1 i2 i3 h hf
    refine zr_iload_n hO (hl := rfl) (j := 3) (hi := rfl) dX3_beginsAt_4 ?_
    refine zr_aload_n hO (hl := rfl) (j := 0) (hi := rfl) dX3_beginsAt_5 ?_
    refine zs_get hO hf 22 (x := q) dX3_beginsAt_6 q2992 (Nat.le_of_ble_eq_true rfl) (congrArg (fun z => some (zi z)) hq) (fun ⟨r1a, r1b⟩ => ?_)
    refine zr_icmp_ge hO ⟨by omega, by omega⟩ ⟨by omega, by omega⟩ (tgt := 36) dX3_beginsAt_9 rfl (fun c9 => ?_) (fun c9 => ?_)
    · skip
      refine zr_iload_n hO (hl := rfl) (j := 2) (hi := rfl) dX3_beginsAt_36 ?_
      exact zr_ireturn hO dX3_beginsAt_37 ⟨(by rw [i3, show k = q by omega]), hf⟩
    · skip
      refine zr_iload_n hO (hl := rfl) (j := 2) (hi := rfl) dX3_beginsAt_12 ?_
      refine zr_aload_n hO (hl := rfl) (j := 0) (hi := rfl) dX3_beginsAt_13 ?_
      refine zs_arr hO hf 14 dX3_beginsAt_14 q2984 (Nat.le_of_ble_eq_true rfl) rfl ?_
      refine zr_iload_n hO (hl := rfl) (j := 3) (hi := rfl) dX3_beginsAt_17 ?_
      refine zs_ild hO hf 14 (f := F) (n := 960) (j := k.toNat) dX3_beginsAt_18 rfl rfl rfl hF (by omega) (by omega) rfl (fun ⟨r2a, r2b⟩ => ?_)
      refine zr_iload_n hO (hl := rfl) (j := 1) (hi := rfl) dX3_beginsAt_19 ?_
      refine zr_icmp_ne hO ⟨by omega, by omega⟩ ⟨by omega, by omega⟩ (tgt := 27) dX3_beginsAt_20 rfl (fun c20 => ?_) (fun c20 => ?_)
      · skip
        refine zr_iconst hO dX3_beginsAt_27 ?_
        refine zr_iadd hO dX3_beginsAt_28 ?_
        refine zr_istore_n hO (L' := [(2, zi (a + 0)), (0, zp r), (1, zi n), (3, zi k)]) (hi := rfl) dX3_beginsAt_29 (Nat.le_of_ble_eq_true rfl) rfl ?_
        refine zr_iinc hO (L' := [(3, zi (k + 1)), (2, zi (a + 0)), (0, zp r), (1, zi n)]) (j := 3) dX3_beginsAt_30 rfl (Nat.le_of_ble_eq_true rfl) rfl ?_
        refine zr_goto hO (tgt := 4) dX3_beginsAt_33 rfl ?_
        refine zV.loc [2, 3, 1, 0] rfl ?_
        exact ih4 _ (by omega) (k + 1) (a + 0) rfl (by omega) (by omega) (by have e := gbgn_s F n i1; rw [show zB (F k.toNat = n) = 0 from zB_f (by assumption)] at e; omega) h hf
      · skip
        refine zr_iconst hO dX3_beginsAt_23 ?_
        refine zr_goto hO (tgt := 28) dX3_beginsAt_24 rfl ?_
        refine zr_iadd hO dX3_beginsAt_28 ?_
        refine zr_istore_n hO (L' := [(2, zi (a + 1)), (0, zp r), (1, zi n), (3, zi k)]) (hi := rfl) dX3_beginsAt_29 (Nat.le_of_ble_eq_true rfl) rfl ?_
        refine zr_iinc hO (L' := [(3, zi (k + 1)), (2, zi (a + 1)), (0, zp r), (1, zi n)]) (j := 3) dX3_beginsAt_30 rfl (Nat.le_of_ble_eq_true rfl) rfl ?_
        refine zr_goto hO (tgt := 4) dX3_beginsAt_33 rfl ?_
        refine zV.loc [2, 3, 1, 0] rfl ?_
        exact ih4 _ (by omega) (k + 1) (a + 1) rfl (by omega) (by omega) (by have e := gbgn_s F n i1; rw [show zB (F k.toNat = n) = 1 from zB_t (by assumption)] at e; omega) h hf
  refine zV.loc [2, 3, 1, 0] rfl ?_
  exact hl4 _ 0 0 rfl (by omega) (by omega) (rfl) h hf
theorem zw_X3_139 : zYw RX3 RX3 139 yX3_length cX3_length 2 (some Jvm.ClassFile.FieldType.int) 1 := ⟨q3136, q3138, qs55, q116, q3139, rfl, ⟨by decide +kernel, by decide +kernel, by decide +kernel⟩⟩
theorem c_X3_blanks {G : zG} {r : Nat} {ad : Nat → Nat} {h0 : zHp} (hI : zRI r ad) {σ : zS} {h : zHp} (hf : zRf r ad σ h0 h) {g : Nat → Int} (hg : σ.2 1 = g) (n : Int) (h1 : 1 ≤ n) (h2 : n ≤ 80) (h3 : 0 ≤ gln g n) (h4 : gln g n ≤ 24) : zC G yX3_blanks cX3_blanks 3 (some Jvm.ClassFile.FieldType.int) 3 64 0 0 [zp r, zi n] h (zPi (fun x h' => x = gbl g n ∧ zR x ∧ zRf r ad σ h0 h') zNo) := by
  refine zC.of zpn_X3 (Nat.le_of_ble_eq_true rfl) (L := [(0, zp r), (1, zi n)]) rfl (fun K hO => ?_)
  refine zr_iconst hO dX3_blanks_0 ?_
  refine zr_istore_n hO (L' := [(2, zi 0), (0, zp r), (1, zi n)]) (hi := rfl) dX3_blanks_1 (Nat.le_of_ble_eq_true rfl) rfl ?_
  have hl2 : ∀ (n9 : Nat) (k : Int), (gln g n - k).toNat = n9 → ∀ (i1 : 0 ≤ k) (i2 : k ≤ gln g n) (i3 : ∀ j, 0 ≤ j → j < k → gch g n j = 32) (h : zHp) (hf : zRf r ad σ h0 h), zV G K 0 0 h 2 [(0, zp r), (1, zi n), (2, zi k)] [] := by
    intro n9
    induction n9 using Nat.strongRecOn with
    | _ n9 ih2 =>
    intro k hn2 i1 i2 i3 h hf
    refine zr_iload_n hO (hl := rfl) (j := 2) (hi := rfl) dX3_blanks_2 ?_
    refine zr_aload_n hO (hl := rfl) (j := 0) (hi := rfl) dX3_blanks_3 ?_
    refine zr_iload_n hO (hl := rfl) (j := 1) (hi := rfl) dX3_blanks_4 ?_
    refine zr_cVi hO zc_X3 zw_X3_139 (c_X3_length hI hf hg n (by omega) (by omega)) dX3_blanks_5 (zrd_of hf.1) rfl (rest := [zi k]) rfl ⟨Nat.le_of_ble_eq_true rfl, Nat.le_of_ble_eq_true rfl⟩ (Nat.le_of_ble_eq_true rfl) (Nat.le_refl _) (Nat.le_refl _) (fun x h hx => ?_)
    obtain ⟨hx, ⟨r1a, r1b⟩, hf⟩ := hx
    have hx : x = gln g n := hx
    subst hx
    refine zr_icmp_ge hO ⟨by omega, by omega⟩ ⟨by omega, by omega⟩ (tgt := 28) dX3_blanks_8 rfl (fun c8 => ?_) (fun c8 => ?_)
    · skip
      refine zr_iload_n hO (hl := rfl) (j := 2) (hi := rfl) dX3_blanks_28 ?_
      exact zr_ireturn hO dX3_blanks_29 ⟨(gbl_eq i1 i2 i3 (by omega)).symm, ⟨by omega, by omega⟩, hf⟩
    · skip
      refine zr_aload_n hO (hl := rfl) (j := 0) (hi := rfl) dX3_blanks_11 ?_
      refine zr_iload_n hO (hl := rfl) (j := 1) (hi := rfl) dX3_blanks_12 ?_
      refine zr_iload_n hO (hl := rfl) (j := 2) (hi := rfl) dX3_blanks_13 ?_
      refine zr_cVi hO zc_X3 zw_X3_133 (c_X3_byteAt hI hf hg n k (by omega) (by omega) (by omega) (by omega)) dX3_blanks_14 (zrd_of hf.1) rfl (rest := []) rfl ⟨Nat.le_of_ble_eq_true rfl, Nat.le_of_ble_eq_true rfl⟩ (Nat.le_of_ble_eq_true rfl) (Nat.le_refl _) (Nat.le_refl _) (fun x h hx => ?_)
      obtain ⟨hx, ⟨r2a, r2b⟩, hf⟩ := hx
      have hx : x = gch g n k := hx
      subst hx
      refine zr_bipush hO (by decide) dX3_blanks_17 ?_
      refine zr_icmp_ne hO ⟨by omega, by omega⟩ ⟨by omega, by omega⟩ (tgt := 28) dX3_blanks_19 rfl (fun c19 => ?_) (fun c19 => ?_)
      · skip
        refine zr_iload_n hO (hl := rfl) (j := 2) (hi := rfl) dX3_blanks_28 ?_
        exact zr_ireturn hO dX3_blanks_29 ⟨(gbl_eq i1 i2 i3 (by omega)).symm, ⟨by omega, by omega⟩, hf⟩
      · skip
        refine zr_iinc hO (L' := [(2, zi (k + 1)), (0, zp r), (1, zi n)]) (j := 2) dX3_blanks_22 rfl (Nat.le_of_ble_eq_true rfl) rfl ?_
        refine zr_goto hO (tgt := 2) dX3_blanks_25 rfl ?_
        refine zV.loc [1, 2, 0] rfl ?_
        exact ih2 _ (by omega) (k + 1) rfl (by omega) (by omega) (fun j a b => by by_cases e : j = k; (rw [e]; assumption); exact i3 j a (by omega)) h hf
  refine zV.loc [1, 2, 0] rfl ?_
  exact hl2 _ 0 rfl (by omega) (by omega) (fun j a b => by omega) h hf
