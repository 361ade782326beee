/-! THE REFERENCE: the parts of changes (printed by gen/refs.py) -/
theorem c_X3_remembers {G : zG} {r : Nat} {ad : Nat → Nat} {h0 : zHp} (hI : zRI r ad) {σ : zS} {h : zHp} (hf : zRf r ad σ h0 h) {g : Nat → Int} (hg : σ.2 1 = g) {A : Nat → Int} (hA : σ.2 3 = A) {u : Int} (hu : σ.1 6 = u) (h1 : 0 ≤ u) (h2 : u ≤ 8) : zC G yX3_remembers cX3_remembers 2 none 1 24 0 0 [zp r] h (zPv (fun h' => zRf r ad (zuS (zuA σ 3 (grem A g u)) 6 (gret u)) h0 h') zNo) := by
  refine zC.of zpn_X3 (Nat.le_of_ble_eq_true rfl) (L := [(0, zp r)]) rfl (fun K hO => ?_)
  refine zr_aload_n hO (hl := rfl) (j := 0) (hi := rfl) dX3_remembers_0 ?_
  refine zs_get hO hf 6 (x := u) dX3_remembers_1 q2976 (Nat.le_of_ble_eq_true rfl) (congrArg (fun z => some (zi z)) hu) (fun ⟨r1a, r1b⟩ => ?_)
  refine zr_bipush hO (by decide) dX3_remembers_4 ?_
  refine zr_icmp_ne hO ⟨by omega, by omega⟩ ⟨by omega, by omega⟩ (tgt := 50) dX3_remembers_6 rfl (fun c6 => ?_) (fun c6 => ?_)
  · skip
    refine zr_aload_n hO (hl := rfl) (j := 0) (hi := rfl) dX3_remembers_50 ?_
    refine zs_arr hO hf 1 dX3_remembers_51 q2971 (Nat.le_of_ble_eq_true rfl) rfl ?_
    refine zr_iconst hO dX3_remembers_54 ?_
    refine zr_aload_n hO (hl := rfl) (j := 0) (hi := rfl) dX3_remembers_55 ?_
    refine zs_arr hO hf 3 dX3_remembers_56 q2973 (Nat.le_of_ble_eq_true rfl) rfl ?_
    refine zr_aload_n hO (hl := rfl) (j := 0) (hi := rfl) dX3_remembers_59 ?_
    refine zs_get hO hf 6 (x := u) dX3_remembers_60 q2976 (Nat.le_of_ble_eq_true rfl) (congrArg (fun z => some (zi z)) hu) (fun ⟨r2a, r2b⟩ => ?_)
    refine zr_sipush hO (by decide) dX3_remembers_63 ?_
    refine zr_imul hO dX3_remembers_66 ?_
    refine zr_cSv hO zw_X3_115 (c_X3_copies hI hf 1 3 0 (u * 2195) rfl rfl rfl rfl (by omega) (by have : zRN 1 = 2195 := rfl; omega) (by omega) (by have : zRN 3 = 17560 := rfl; omega) (by first | exact Or.inl (by decide) | omega) (by omega) (by omega)) dX3_remembers_67 rfl (rest := []) rfl ⟨Nat.le_of_ble_eq_true rfl, Nat.le_of_ble_eq_true rfl⟩ (Nat.le_of_ble_eq_true rfl) (Nat.le_refl _) (Nat.le_refl _) (fun h hx => ?_)
    have hf : zRf r ad (zuA σ 3 (gcp g 0 A (u * 2195) 2195)) h0 h := gcp_eq hg hA hx
    refine zr_aload_n hO (hl := rfl) (j := 0) (hi := rfl) dX3_remembers_70 ?_
    refine zr_dup hO rfl dX3_remembers_71 ?_
    refine zs_get hO hf 6 (x := u) dX3_remembers_72 q2976 (Nat.le_of_ble_eq_true rfl) (congrArg (fun z => some (zi z)) hu) (fun ⟨r3a, r3b⟩ => ?_)
    refine zr_iconst hO dX3_remembers_75 ?_
    refine zr_iadd hO dX3_remembers_76 ?_
    refine zs_put hO hI hf 6 dX3_remembers_77 q2976 (Nat.le_of_ble_eq_true rfl) rfl rfl rfl ⟨by omega, by omega⟩ (fun h hf => ?_)
    exact zr_return hO dX3_remembers_80 (zRf_eq (by unfold grem gret; rw [if_neg (show ¬ u = 8 by omega), if_neg (show ¬ u = 8 by omega)]) hf)
  · skip
    refine zr_iconst hO dX3_remembers_9 ?_
    refine zr_istore_n hO (L' := [(1, zi 0), (0, zp r)]) (hi := rfl) dX3_remembers_10 (Nat.le_of_ble_eq_true rfl) rfl ?_
    have hl11 : ∀ (n9 : Nat) (i : Int), (15365 - i).toNat = n9 → ∀ (i1 : 0 ≤ i) (i2 : i ≤ 15365) (h : zHp) (hf : zRf r ad (zuA σ 3 (gshi A i)) h0 h), zV G K 0 0 h 11 [(0, zp r), (1, zi i)] [] := by
      intro n9
      induction n9 using Nat.strongRecOn with
      | _ n9 ih11 =>
      intro i hn11 i1 i2 h hf
      refine zr_iload_n hO (hl := rfl) (j := 1) (hi := rfl) dX3_remembers_11 ?_
      refine zr_sipush hO (by decide) dX3_remembers_12 ?_
      refine zr_icmp_ge hO ⟨by omega, by omega⟩ ⟨by omega, by omega⟩ (tgt := 40) dX3_remembers_15 rfl (fun c15 => ?_) (fun c15 => ?_)
      · skip
        refine zr_aload_n hO (hl := rfl) (j := 0) (hi := rfl) dX3_remembers_40 ?_
        refine zr_dup hO rfl dX3_remembers_41 ?_
        refine zs_get hO hf 6 (x := u) dX3_remembers_42 q2976 (Nat.le_of_ble_eq_true rfl) (congrArg (fun z => some (zi z)) hu) (fun ⟨r4a, r4b⟩ => ?_)
        refine zr_iconst hO dX3_remembers_45 ?_
        refine zr_isub hO dX3_remembers_46 ?_
        refine zs_put hO hI hf 6 dX3_remembers_47 q2976 (Nat.le_of_ble_eq_true rfl) rfl rfl rfl ⟨by omega, by omega⟩ (fun h hf => ?_)
        refine zr_aload_n hO (hl := rfl) (j := 0) (hi := rfl) dX3_remembers_50 ?_
        refine zs_arr hO hf 1 dX3_remembers_51 q2971 (Nat.le_of_ble_eq_true rfl) rfl ?_
        refine zr_iconst hO dX3_remembers_54 ?_
        refine zr_aload_n hO (hl := rfl) (j := 0) (hi := rfl) dX3_remembers_55 ?_
        refine zs_arr hO hf 3 dX3_remembers_56 q2973 (Nat.le_of_ble_eq_true rfl) rfl ?_
        refine zr_aload_n hO (hl := rfl) (j := 0) (hi := rfl) dX3_remembers_59 ?_
        refine zs_get hO hf 6 (x := u - 1) dX3_remembers_60 q2976 (Nat.le_of_ble_eq_true rfl) rfl (fun ⟨r5a, r5b⟩ => ?_)
        refine zr_sipush hO (by decide) dX3_remembers_63 ?_
        refine zr_imul hO dX3_remembers_66 ?_
        refine zr_cSv hO zw_X3_115 (c_X3_copies hI hf 1 3 0 ((u - 1) * 2195) rfl rfl rfl rfl (by omega) (by have : zRN 1 = 2195 := rfl; omega) (by omega) (by have : zRN 3 = 17560 := rfl; omega) (by first | exact Or.inl (by decide) | omega) (by omega) (by omega)) dX3_remembers_67 rfl (rest := []) rfl ⟨Nat.le_of_ble_eq_true rfl, Nat.le_of_ble_eq_true rfl⟩ (Nat.le_of_ble_eq_true rfl) (Nat.le_refl _) (Nat.le_refl _) (fun h hx => ?_)
        have hf : zRf r ad (zuA (zuS (zuA σ 3 (gshi A i)) 6 (u - 1)) 3 (gcp g 0 (gshi A i) ((u - 1) * 2195) 2195)) h0 h := gcp_eq hg ((zuS_2 (zuA σ 3 (gshi A i)) 6 (u - 1) 3).trans (zuA_at σ 3 (gshi A i))) hx
        refine zr_aload_n hO (hl := rfl) (j := 0) (hi := rfl) dX3_remembers_70 ?_
        refine zr_dup hO rfl dX3_remembers_71 ?_
        refine zs_get hO hf 6 (x := u - 1) dX3_remembers_72 q2976 (Nat.le_of_ble_eq_true rfl) rfl (fun ⟨r6a, r6b⟩ => ?_)
        refine zr_iconst hO dX3_remembers_75 ?_
        refine zr_iadd hO dX3_remembers_76 ?_
        refine zs_put hO hI hf 6 dX3_remembers_77 q2976 (Nat.le_of_ble_eq_true rfl) rfl rfl rfl ⟨by omega, by omega⟩ (fun h hf => ?_)
        exact zr_return hO dX3_remembers_80 (zRf_eq (by unfold grem gret; rw [if_pos (show u = 8 by omega), if_pos (show u = 8 by omega), show u = 8 by omega, show i = 15365 by omega]; exact zrem_eq _ _ _ _ _) hf)
      · skip
        refine zr_aload_n hO (hl := rfl) (j := 0) (hi := rfl) dX3_remembers_18 ?_
        refine zs_arr hO hf 3 dX3_remembers_19 q2973 (Nat.le_of_ble_eq_true rfl) rfl ?_
        refine zr_iload_n hO (hl := rfl) (j := 1) (hi := rfl) dX3_remembers_22 ?_
        refine zr_aload_n hO (hl := rfl) (j := 0) (hi := rfl) dX3_remembers_23 ?_
        refine zs_arr hO hf 3 dX3_remembers_24 q2973 (Nat.le_of_ble_eq_true rfl) rfl ?_
        refine zr_iload_n hO (hl := rfl) (j := 1) (hi := rfl) dX3_remembers_27 ?_
        refine zr_sipush hO (by decide) dX3_remembers_28 ?_
        refine zr_iadd hO dX3_remembers_31 ?_
        refine zs_ild hO hf 3 (f := gshi A i) (n := 17560) (j := (i + 2195).toNat) dX3_remembers_32 rfl rfl rfl rfl (by omega) (by omega) rfl (fun ⟨r7a, r7b⟩ => ?_)
        have hgs : gshi A i (i + 2195).toNat = A (i.toNat + 2195) := by unfold gshi; rw [if_neg (by omega), show (i + 2195).toNat = i.toNat + 2195 by omega]
        rw [show ((gshi A i) ((i + 2195).toNat)) = A (i.toNat + 2195) from hgs]
        refine zs_ist hO hI hf 3 (f := gshi A i) (n := 17560) (j := i.toNat) dX3_remembers_33 rfl rfl rfl rfl (by omega) (by omega) rfl ⟨by omega, by omega⟩ (fun h hf => ?_)
        refine zr_iinc hO (L' := [(1, zi (i + 1)), (0, zp r)]) (j := 1) dX3_remembers_34 rfl (Nat.le_of_ble_eq_true rfl) rfl ?_
        refine zr_goto hO (tgt := 11) dX3_remembers_37 rfl ?_
        refine zV.loc [1, 0] rfl ?_
        exact ih11 _ (by omega) (i + 1) rfl (by omega) (by omega) h (zRf_eq (by rw [zuA_uA, gshi_s A i1]) hf)
    refine zV.loc [1, 0] rfl ?_
    exact hl11 _ 0 rfl (by omega) (by omega) h (zRf_eq (by rw [gshi_0, zuA_id' 3 hA]) hf)
theorem c_X3_laysText {G : zG} {r : Nat} {ad : Nat → Nat} {h0 : zHp} (hI : zRI r ad) {σ : zS} {h : zHp} (hf : zRf r ad σ h0 h) {g : Nat → Int} (hg : σ.2 1 = g) {b : Nat → Int} (hb : σ.2 7 = b) (n : Int) (m : Int) (h1 : 1 ≤ n) (h2 : n ≤ 80) (h3 : 0 ≤ m) (h4 : m ≤ 24) : zC G yX3_laysText cX3_laysText 4 none 1 20 0 0 [zp r, zi n, zi m] h (zPv (fun h' => zRf r ad (zuA σ 1 (gtxt g n b m)) h0 h') zNo) := by
  refine zC.of zpn_X3 (Nat.le_of_ble_eq_true rfl) (L := [(0, zp r), (1, zi n), (2, zi m)]) rfl (fun K hO => ?_)
  refine zr_iconst hO dX3_laysText_0 ?_
  refine zr_istore_n hO (L' := [(3, zi 0), (0, zp r), (1, zi n), (2, zi m)]) (hi := rfl) dX3_laysText_1 (Nat.le_of_ble_eq_true rfl) rfl ?_
  have hl2 : ∀ (n9 : Nat) (i : Int), (m - i).toNat = n9 → ∀ (i1 : 0 ≤ i) (i2 : i ≤ m) (h : zHp) (hf : zRf r ad (zuA σ 1 (gcp b 0 g (35 + 27 * (n - 1) + 3) i)) h0 h), zV G K 0 0 h 2 [(0, zp r), (1, zi n), (2, zi m), (3, zi i)] [] := by
    intro n9
    induction n9 using Nat.strongRecOn with
    | _ n9 ih2 =>
    intro i hn2 i1 i2 h hf
    refine zr_iload_n hO (hl := rfl) (j := 3) (hi := rfl) dX3_laysText_2 ?_
    refine zr_iload_n hO (hl := rfl) (j := 2) (hi := rfl) dX3_laysText_3 ?_
    refine zr_icmp_ge hO ⟨by omega, by omega⟩ ⟨by omega, by omega⟩ (tgt := 32) dX3_laysText_4 rfl (fun c4 => ?_) (fun c4 => ?_)
    · skip
      refine zr_aload_n hO (hl := rfl) (j := 0) (hi := rfl) dX3_laysText_32 ?_
      refine zs_arr hO hf 1 dX3_laysText_33 q2971 (Nat.le_of_ble_eq_true rfl) rfl ?_
      refine zr_iload_n hO (hl := rfl) (j := 1) (hi := rfl) dX3_laysText_36 ?_
      refine zr_cSi hO zw_X3_125 (c_X3_lineAt n) dX3_laysText_37 rfl (rest := [zp (ad 1)]) rfl ⟨Nat.le_of_ble_eq_true rfl, Nat.le_of_ble_eq_true rfl⟩ (Nat.le_of_ble_eq_true rfl) (Nat.le_refl _) (Nat.le_refl _) (fun x h hx => ?_)
      obtain ⟨hx, rfl⟩ := hx
      have hx : x = 35 + 27 * (n - 1) := hx
      subst hx
      refine zr_iconst hO dX3_laysText_40 ?_
      refine zr_iadd hO dX3_laysText_41 ?_
      refine zr_iload_n hO (hl := rfl) (j := 2) (hi := rfl) dX3_laysText_42 ?_
      refine zs_ist hO hI hf 1 (f := gcp b 0 g (35 + 27 * (n - 1) + 3) i) (n := 2195) (j := ((35 + 27 * (n - 1)) + 2).toNat) dX3_laysText_43 rfl rfl rfl rfl (by omega) (by omega) rfl ⟨by omega, by omega⟩ (fun h hf => ?_)
      exact zr_return hO dX3_laysText_44 (zRf_eq (by rw [zuA_uA, show m = i by omega]; rfl) hf)
    · skip
      refine zr_aload_n hO (hl := rfl) (j := 0) (hi := rfl) dX3_laysText_7 ?_
      refine zs_arr hO hf 1 dX3_laysText_8 q2971 (Nat.le_of_ble_eq_true rfl) rfl ?_
      refine zr_iload_n hO (hl := rfl) (j := 1) (hi := rfl) dX3_laysText_11 ?_
      refine zr_cSi hO zw_X3_125 (c_X3_lineAt n) dX3_laysText_12 rfl (rest := [zp (ad 1)]) rfl ⟨Nat.le_of_ble_eq_true rfl, Nat.le_of_ble_eq_true rfl⟩ (Nat.le_of_ble_eq_true rfl) (Nat.le_refl _) (Nat.le_refl _) (fun x h hx => ?_)
      obtain ⟨hx, rfl⟩ := hx
      have hx : x = 35 + 27 * (n - 1) := hx
      subst hx
      refine zr_iconst hO dX3_laysText_15 ?_
      refine zr_iadd hO dX3_laysText_16 ?_
      refine zr_iload_n hO (hl := rfl) (j := 3) (hi := rfl) dX3_laysText_17 ?_
      refine zr_iadd hO dX3_laysText_18 ?_
      refine zr_aload_n hO (hl := rfl) (j := 0) (hi := rfl) dX3_laysText_19 ?_
      refine zs_arr hO hf 7 dX3_laysText_20 q2977 (Nat.le_of_ble_eq_true rfl) rfl ?_
      refine zr_iload_n hO (hl := rfl) (j := 3) (hi := rfl) dX3_laysText_23 ?_
      refine zs_bld hO hf 7 (f := b) (n := 700) (j := i.toNat) dX3_laysText_24 rfl rfl rfl hb (by omega) (by omega) rfl (fun ⟨r1a, r1b⟩ => ?_)
      refine zs_ist hO hI hf 1 (f := gcp b 0 g (35 + 27 * (n - 1) + 3) i) (n := 2195) (j := (((35 + 27 * (n - 1)) + 3) + i).toNat) dX3_laysText_25 rfl rfl rfl rfl (by omega) (by omega) rfl ⟨by omega, by omega⟩ (fun h hf => ?_)
      refine zr_iinc hO (L' := [(3, zi (i + 1)), (0, zp r), (1, zi n), (2, zi m)]) (j := 3) dX3_laysText_26 rfl (Nat.le_of_ble_eq_true rfl) rfl ?_
      refine zr_goto hO (tgt := 2) dX3_laysText_29 rfl ?_
      refine zV.loc [1, 2, 3, 0] rfl ?_
      exact ih2 _ (by omega) (i + 1) rfl (by omega) (by omega) h (zRf_eq (by rw [zuA_uA, ← gcp_s b 0 g (by omega) i1, show (0 : Int) + i = i by omega]) hf)
  refine zV.loc [1, 2, 3, 0] rfl ?_
  exact hl2 _ 0 rfl (by omega) (by omega) h (zRf_eq (by rw [gcp_0, zuA_id' 1 hg]) hf)
theorem c_X3_isText {G : zG} {r : Nat} {ad : Nat → Nat} {h0 : zHp} (hI : zRI r ad) {σ : zS} {h : zHp} (hf : zRf r ad σ h0 h) {b : Nat → Int} (hb : σ.2 7 = b) (m : Int) (h1 : 0 ≤ m) (h2 : m ≤ 700) : zC G yX3_isText cX3_isText 3 (some Jvm.ClassFile.FieldType.boolean) 2 42 0 0 [zp r, zi m] h (zPi (fun x h' => x = zB (gTx b m) ∧ zRf r ad σ h0 h') zNo) := by
  refine zC.of zpn_X3 (Nat.le_of_ble_eq_true rfl) (L := [(0, zp r), (1, zi m)]) rfl (fun K hO => ?_)
  refine zr_iload_n hO (hl := rfl) (j := 1) (hi := rfl) dX3_isText_0 ?_
  refine zr_bipush hO (by decide) dX3_isText_1 ?_
  refine zr_icmp_le hO ⟨by omega, by omega⟩ ⟨by omega, by omega⟩ (tgt := 8) dX3_isText_3 rfl (fun c3 => ?_) (fun c3 => ?_)
  · skip
    refine zr_iconst hO dX3_isText_8 ?_
    refine zr_istore_n hO (L' := [(2, zi 0), (0, zp r), (1, zi m)]) (hi := rfl) dX3_isText_9 (Nat.le_of_ble_eq_true rfl) rfl ?_
    have hl10 : ∀ (n9 : Nat) (i : Int), (m - i).toNat = n9 → ∀ (i1 : 0 ≤ i) (i2 : i ≤ m) (i3 : ∀ j : Nat, j < i.toNat → ((32 ≤ b j ∧ b j ≤ 126) ∧ b j ≠ 124)) (h : zHp) (hf : zRf r ad σ h0 h), zV G K 0 0 h 10 [(0, zp r), (1, zi m), (2, zi i)] [] := by
      intro n9
      induction n9 using Nat.strongRecOn with
      | _ n9 ih10 =>
      intro i hn10 i1 i2 i3 h hf
      refine zr_iload_n hO (hl := rfl) (j := 2) (hi := rfl) dX3_isText_10 ?_
      refine zr_iload_n hO (hl := rfl) (j := 1) (hi := rfl) dX3_isText_11 ?_
      refine zr_icmp_ge hO ⟨by omega, by omega⟩ ⟨by omega, by omega⟩ (tgt := 35) dX3_isText_12 rfl (fun c12 => ?_) (fun c12 => ?_)
      · skip
        refine zr_iconst hO dX3_isText_35 ?_
        exact zr_zreturn hO (znz (Or.inr rfl)) dX3_isText_36 ⟨(zB_t ⟨by omega, fun j hj => i3 j (by omega)⟩).symm, hf⟩
      · skip
        refine zr_aload_n hO (hl := rfl) (j := 0) (hi := rfl) dX3_isText_15 ?_
        refine zs_arr hO hf 7 dX3_isText_16 q2977 (Nat.le_of_ble_eq_true rfl) rfl ?_
        refine zr_iload_n hO (hl := rfl) (j := 2) (hi := rfl) dX3_isText_19 ?_
        refine zs_bld hO hf 7 (f := b) (n := 700) (j := i.toNat) dX3_isText_20 rfl rfl rfl hb (by omega) (by omega) rfl (fun ⟨r1a, r1b⟩ => ?_)
        refine zr_cSi hO zw_X3_107 (c_X3_isByte (b i.toNat) (⟨by omega, by omega⟩)) dX3_isText_21 rfl (rest := []) rfl ⟨Nat.le_of_ble_eq_true rfl, Nat.le_of_ble_eq_true rfl⟩ (Nat.le_of_ble_eq_true rfl) (Nat.le_refl _) (Nat.le_refl _) (fun x h hx => ?_)
        obtain ⟨hx, rfl⟩ := hx
        have hx : x = zB ((32 ≤ (b i.toNat) ∧ (b i.toNat) ≤ 126) ∧ (b i.toNat) ≠ 124) := hx
        subst hx
        refine zr_if_ne hO (zR_B _) (tgt := 29) dX3_isText_24 rfl (fun c24 => ?_) (fun c24 => ?_)
        · skip
          have c24 := zB_ne c24
          refine zr_iinc hO (L' := [(2, zi (i + 1)), (0, zp r), (1, zi m)]) (j := 2) dX3_isText_29 rfl (Nat.le_of_ble_eq_true rfl) rfl ?_
          refine zr_goto hO (tgt := 10) dX3_isText_32 rfl ?_
          refine zV.loc [1, 2, 0] rfl ?_
          exact ih10 _ (by omega) (i + 1) rfl (by omega) (by omega) (fun j hj => by by_cases e : j = i.toNat; (rw [e]; exact c24); exact i3 j (by omega)) h hf
        · skip
          have c24 := zB_eq c24
          refine zr_iconst hO dX3_isText_27 ?_
          exact zr_zreturn hO (znz (Or.inl rfl)) dX3_isText_28 ⟨(zB_f (fun q => c24 (q.2 i.toNat (by omega)))).symm, hf⟩
    refine zV.loc [1, 2, 0] rfl ?_
    exact hl10 _ 0 rfl (by omega) (by omega) (fun j hj => absurd hj (by omega)) h hf
  · skip
    refine zr_iconst hO dX3_isText_6 ?_
    exact zr_zreturn hO (znz (Or.inl rfl)) dX3_isText_7 ⟨(zB_f (fun q => by have := q.1; omega)).symm, hf⟩
theorem c_X3_arranges {G : zG} {r : Nat} {ad : Nat → Nat} {h0 : zHp} (hI : zRI r ad) {σ : zS} {h : zHp} (hf : zRf r ad σ h0 h) {g : Nat → Int} (hg : σ.2 1 = g) {o : Nat → Int} (ho : σ.2 27 = o) {m : Nat → Int} (hm : σ.2 28 = m) (w1 : 0 ≤ g 0) (w2 : g 0 ≤ 80) (hob : ∀ j : Nat, (j : Int) < g 0 → 1 ≤ o j ∧ o j ≤ 80) : zC G yX3_arranges cX3_arranges 3 none 2 42 0 0 [zp r] h (zPv (fun h' => zRf r ad (zuA (zuA σ 28 (gmvd g o m (27 * g 0))) 1 (garr g o (27 * g 0))) h0 h') zNo) := by
  refine zC.of zpn_X3 (Nat.le_of_ble_eq_true rfl) (L := [(0, zp r)]) rfl (fun K hO => ?_)
  refine zr_iconst hO dX3_arranges_0 ?_
  refine zr_istore_n hO (L' := [(1, zi 0), (0, zp r)]) (hi := rfl) dX3_arranges_1 (Nat.le_of_ble_eq_true rfl) rfl ?_
  have hl2 : ∀ (n9 : Nat) (z : Int), (g 0 - z).toNat = n9 → ∀ (i1 : 0 ≤ z) (i2 : z ≤ g 0) (h : zHp) (hf : zRf r ad (zuA σ 28 (gmvd g o m (27 * z))) h0 h), zV G K 0 0 h 2 [(0, zp r), (1, zi z)] [] := by
    intro n9
    induction n9 using Nat.strongRecOn with
    | _ n9 ih2 =>
    intro z hn2 i1 i2 h hf
    refine zr_iload_n hO (hl := rfl) (j := 1) (hi := rfl) dX3_arranges_2 ?_
    refine zr_aload_n hO (hl := rfl) (j := 0) (hi := rfl) dX3_arranges_3 ?_
    refine zs_arr hO hf 1 dX3_arranges_4 q2971 (Nat.le_of_ble_eq_true rfl) rfl ?_
    refine zr_iconst hO dX3_arranges_7 ?_
    refine zs_ild hO hf 1 (f := g) (n := 2195) (j := 0) dX3_arranges_8 rfl rfl rfl hg (by omega) (by omega) rfl (fun ⟨r1a, r1b⟩ => ?_)
    refine zr_icmp_ge hO ⟨by omega, by omega⟩ ⟨by omega, by omega⟩ (tgt := 54) dX3_arranges_9 rfl (fun c9 => ?_) (fun c9 => ?_)
    · skip
      refine zr_iconst hO dX3_arranges_54 ?_
      refine zr_istore_n hO (L' := [(1, zi 0), (0, zp r)]) (hi := rfl) dX3_arranges_55 (Nat.le_of_ble_eq_true rfl) rfl ?_
      have hl56 : ∀ (n9 : Nat) (i : Int), (27 * g 0 - i).toNat = n9 → ∀ (i1 : 0 ≤ i) (i2 : i ≤ 27 * g 0) (h : zHp) (hf : zRf r ad (zuA (zuA σ 28 (gmvd g o m (27 * g 0))) 1 (garr g o i)) h0 h), zV G K 0 0 h 56 [(0, zp r), (1, zi i)] [] := by
        intro n9
        induction n9 using Nat.strongRecOn with
        | _ n9 ih56 =>
        intro i hn56 i1 i2 h hf
        refine zr_iload_n hO (hl := rfl) (j := 1) (hi := rfl) dX3_arranges_56 ?_
        refine zr_bipush hO (by decide) dX3_arranges_57 ?_
        refine zr_aload_n hO (hl := rfl) (j := 0) (hi := rfl) dX3_arranges_59 ?_
        refine zs_arr hO hf 1 dX3_arranges_60 q2971 (Nat.le_of_ble_eq_true rfl) rfl ?_
        refine zr_iconst hO dX3_arranges_63 ?_
        refine zs_ild hO hf 1 (f := garr g o i) (n := 2195) (j := 0) dX3_arranges_64 rfl rfl rfl rfl (by omega) (by omega) rfl (fun ⟨r2a, r2b⟩ => ?_)
        rw [show ((garr g o i) 0) = g 0 from (if_neg (by omega))]
        refine zr_imul hO dX3_arranges_65 ?_
        refine zr_icmp_ge hO ⟨by omega, by omega⟩ ⟨by omega, by omega⟩ (tgt := 90) dX3_arranges_66 rfl (fun c66 => ?_) (fun c66 => ?_)
        · skip
          exact zr_return hO dX3_arranges_90 (zRf_eq (by rw [show i = 27 * g 0 by omega]) hf)
        · skip
          refine zr_aload_n hO (hl := rfl) (j := 0) (hi := rfl) dX3_arranges_69 ?_
          refine zs_arr hO hf 1 dX3_arranges_70 q2971 (Nat.le_of_ble_eq_true rfl) rfl ?_
          refine zr_bipush hO (by decide) dX3_arranges_73 ?_
          refine zr_iload_n hO (hl := rfl) (j := 1) (hi := rfl) dX3_arranges_75 ?_
          refine zr_iadd hO dX3_arranges_76 ?_
          refine zr_aload_n hO (hl := rfl) (j := 0) (hi := rfl) dX3_arranges_77 ?_
          refine zs_arr hO hf 28 dX3_arranges_78 q2998 (Nat.le_of_ble_eq_true rfl) rfl ?_
          refine zr_iload_n hO (hl := rfl) (j := 1) (hi := rfl) dX3_arranges_81 ?_
          refine zs_ild hO hf 28 (f := gmvd g o m (27 * g 0)) (n := 2160) (j := i.toNat) dX3_arranges_82 rfl rfl rfl rfl (by omega) (by omega) rfl (fun ⟨r3a, r3b⟩ => ?_)
          refine zs_ist hO hI hf 1 (f := garr g o i) (n := 2195) (j := (35 + i).toNat) dX3_arranges_83 rfl rfl rfl rfl (by omega) (by omega) rfl ⟨by omega, by omega⟩ (fun h hf => ?_)
          refine zr_iinc hO (L' := [(1, zi (i + 1)), (0, zp r)]) (j := 1) dX3_arranges_84 rfl (Nat.le_of_ble_eq_true rfl) rfl ?_
          refine zr_goto hO (tgt := 56) dX3_arranges_87 rfl ?_
          refine zV.loc [1, 0] rfl ?_
          exact ih56 _ (by omega) (i + 1) rfl (by omega) (by omega) h (zRf_eq (by rw [zuA_uA, garr_s g o m i1 (by omega)]) hf)
      refine zV.loc [1, 0] rfl ?_
      exact hl56 _ 0 rfl (by omega) (by omega) h (zRf_eq (by rw [garr_0, show z = g 0 by omega]; exact (zuA_id' 1 ((zuA_ne _ 28 _ (j := 1) (by decide)).trans hg)).symm) hf)
    · skip
      refine zr_iconst hO dX3_arranges_12 ?_
      refine zr_istore_n hO (L' := [(2, zi 0), (0, zp r), (1, zi z)]) (hi := rfl) dX3_arranges_13 (Nat.le_of_ble_eq_true rfl) rfl ?_
      have hl14 : ∀ (n9 : Nat) (y : Int), (27 - y).toNat = n9 → ∀ (j1 : 0 ≤ y) (j2 : y ≤ 27) (h : zHp) (hf : zRf r ad (zuA σ 28 (gmvd g o m (27 * z + y))) h0 h), zV G K 0 0 h 14 [(0, zp r), (1, zi z), (2, zi y)] [] := by
        intro n9
        induction n9 using Nat.strongRecOn with
        | _ n9 ih14 =>
        intro y hn14 j1 j2 h hf
        refine zr_iload_n hO (hl := rfl) (j := 2) (hi := rfl) dX3_arranges_14 ?_
        refine zr_bipush hO (by decide) dX3_arranges_15 ?_
        refine zr_icmp_ge hO ⟨by omega, by omega⟩ ⟨by omega, by omega⟩ (tgt := 48) dX3_arranges_17 rfl (fun c17 => ?_) (fun c17 => ?_)
        · skip
          refine zr_iinc hO (L' := [(1, zi (z + 1)), (0, zp r), (2, zi y)]) (j := 1) dX3_arranges_48 rfl (Nat.le_of_ble_eq_true rfl) rfl ?_
          refine zr_goto hO (tgt := 2) dX3_arranges_51 rfl ?_
          refine zV.loc [1, 0] rfl ?_
          exact ih2 _ (by omega) (z + 1) rfl (by omega) (by omega) h (zRf_eq (by rw [show 27 * z + y = 27 * (z + 1) by omega]) hf)
        · skip
          refine zr_aload_n hO (hl := rfl) (j := 0) (hi := rfl) dX3_arranges_20 ?_
          refine zs_arr hO hf 28 dX3_arranges_21 q2998 (Nat.le_of_ble_eq_true rfl) rfl ?_
          refine zr_bipush hO (by decide) dX3_arranges_24 ?_
          refine zr_iload_n hO (hl := rfl) (j := 1) (hi := rfl) dX3_arranges_26 ?_
          refine zr_imul hO dX3_arranges_27 ?_
          refine zr_iload_n hO (hl := rfl) (j := 2) (hi := rfl) dX3_arranges_28 ?_
          refine zr_iadd hO dX3_arranges_29 ?_
          refine zr_aload_n hO (hl := rfl) (j := 0) (hi := rfl) dX3_arranges_30 ?_
          refine zr_aload_n hO (hl := rfl) (j := 0) (hi := rfl) dX3_arranges_31 ?_
          refine zs_arr hO hf 27 dX3_arranges_32 q2997 (Nat.le_of_ble_eq_true rfl) rfl ?_
          refine zr_iload_n hO (hl := rfl) (j := 1) (hi := rfl) dX3_arranges_35 ?_
          refine zs_ild hO hf 27 (f := o) (n := 80) (j := z.toNat) dX3_arranges_36 rfl rfl rfl ho (by omega) (by omega) rfl (fun ⟨r4a, r4b⟩ => ?_)
          have hox := hob z.toNat (by omega)
          refine zr_iload_n hO (hl := rfl) (j := 2) (hi := rfl) dX3_arranges_37 ?_
          refine zr_cVi hO zc_X3 zw_X3_129 (c_X3_of hI hf hg (o z.toNat) y (by omega) (by omega)) dX3_arranges_38 (zrd_of hf.1) rfl (rest := [zi ((27 * z) + y), zp (ad 28)]) rfl ⟨Nat.le_of_ble_eq_true rfl, Nat.le_of_ble_eq_true rfl⟩ (Nat.le_of_ble_eq_true rfl) (Nat.le_refl _) (Nat.le_refl _) (fun x h hx => ?_)
          obtain ⟨hx, ⟨r5a, r5b⟩, hf⟩ := hx
          have hx : x = gof g (o z.toNat) y := hx
          subst hx
          refine zs_ist hO hI hf 28 (f := gmvd g o m (27 * z + y)) (n := 2160) (j := ((27 * z) + y).toNat) dX3_arranges_41 rfl rfl rfl rfl (by omega) (by omega) rfl ⟨by omega, by omega⟩ (fun h hf => ?_)
          refine zr_iinc hO (L' := [(2, zi (y + 1)), (0, zp r), (1, zi z)]) (j := 2) dX3_arranges_42 rfl (Nat.le_of_ble_eq_true rfl) rfl ?_
          refine zr_goto hO (tgt := 14) dX3_arranges_45 rfl ?_
          refine zV.loc [1, 2, 0] rfl ?_
          exact ih14 _ (by omega) (y + 1) rfl (by omega) (by omega) h (zRf_eq (by rw [zuA_uA, ← gmvd_s g o m i1 j1 (by omega)]; rfl) hf)
      refine zV.loc [1, 2, 0] rfl ?_
      exact hl14 _ 0 rfl (by omega) (by omega) h (zRf_eq (by rw [Int.add_zero]) hf)
  refine zV.loc [1, 0] rfl ?_
  exact hl2 _ 0 rfl (by omega) (by omega) h (zRf_eq (by rw [Int.mul_zero, gmvd_0, zuA_id' 28 hm]) hf)
theorem c_X3_laysOrder {G : zG} {r : Nat} {ad : Nat → Nat} {h0 : zHp} (hI : zRI r ad) {σ : zS} {h : zHp} (hf : zRf r ad σ h0 h) {g : Nat → Int} (hg : σ.2 1 = g) {o : Nat → Int} (ho : σ.2 27 = o) (w1 : 0 ≤ g 0) (w2 : g 0 ≤ 80) : zC G yX3_laysOrder cX3_laysOrder 2 none 0 0 0 0 [zp r] h (zPv (fun h' => zRf r ad (zuA σ 27 (gput (gblk 1 (g 0).toNat) o)) h0 h') zNo) := by
  refine zC.of zpn_X3 (Nat.le_of_ble_eq_true rfl) (L := [(0, zp r)]) rfl (fun K hO => ?_)
  refine zr_iconst hO dX3_laysOrder_0 ?_
  refine zr_istore_n hO (L' := [(1, zi 0), (0, zp r)]) (hi := rfl) dX3_laysOrder_1 (Nat.le_of_ble_eq_true rfl) rfl ?_
  have hl2 : ∀ (n9 : Nat) (z : Int), (g 0 - z).toNat = n9 → ∀ (i1 : 0 ≤ z) (i2 : z ≤ g 0) (h : zHp) (hf : zRf r ad (zuA σ 27 (gput (gblk 1 z.toNat) o)) h0 h), zV G K 0 0 h 2 [(0, zp r), (1, zi z)] [] := by
    intro n9
    induction n9 using Nat.strongRecOn with
    | _ n9 ih2 =>
    intro z hn2 i1 i2 h hf
    refine zr_iload_n hO (hl := rfl) (j := 1) (hi := rfl) dX3_laysOrder_2 ?_
    refine zr_aload_n hO (hl := rfl) (j := 0) (hi := rfl) dX3_laysOrder_3 ?_
    refine zs_arr hO hf 1 dX3_laysOrder_4 q2971 (Nat.le_of_ble_eq_true rfl) rfl ?_
    refine zr_iconst hO dX3_laysOrder_7 ?_
    refine zs_ild hO hf 1 (f := g) (n := 2195) (j := 0) dX3_laysOrder_8 rfl rfl rfl hg (by omega) (by omega) rfl (fun ⟨r1a, r1b⟩ => ?_)
    refine zr_icmp_ge hO ⟨by omega, by omega⟩ ⟨by omega, by omega⟩ (tgt := 27) dX3_laysOrder_9 rfl (fun c9 => ?_) (fun c9 => ?_)
    · skip
      exact zr_return hO dX3_laysOrder_27 (zRf_eq (by rw [show z = g 0 by omega]) hf)
    · skip
      refine zr_aload_n hO (hl := rfl) (j := 0) (hi := rfl) dX3_laysOrder_12 ?_
      refine zs_arr hO hf 27 dX3_laysOrder_13 q2997 (Nat.le_of_ble_eq_true rfl) rfl ?_
      refine zr_iload_n hO (hl := rfl) (j := 1) (hi := rfl) dX3_laysOrder_16 ?_
      refine zr_iload_n hO (hl := rfl) (j := 1) (hi := rfl) dX3_laysOrder_17 ?_
      refine zr_iconst hO dX3_laysOrder_18 ?_
      refine zr_iadd hO dX3_laysOrder_19 ?_
      refine zs_ist hO hI hf 27 (f := gput (gblk 1 z.toNat) o) (n := 80) (j := z.toNat) dX3_laysOrder_20 rfl rfl rfl rfl (by omega) (by omega) rfl ⟨by omega, by omega⟩ (fun h hf => ?_)
      refine zr_iinc hO (L' := [(1, zi (z + 1)), (0, zp r)]) (j := 1) dX3_laysOrder_21 rfl (Nat.le_of_ble_eq_true rfl) rfl ?_
      refine zr_goto hO (tgt := 2) dX3_laysOrder_24 rfl ?_
      refine zV.loc [1, 0] rfl ?_
      exact ih2 _ (by omega) (z + 1) rfl (by omega) (by omega) h (zRf_eq (by rw [zuA_uA, show (z + 1).toNat = z.toNat + 1 by omega, gblk_s, ← gput_s, gblk_len, show z + 1 = 1 + (z.toNat : Int) by omega]) hf)
  refine zV.loc [1, 0] rfl ?_
  exact hl2 _ 0 rfl (by omega) (by omega) h (zRf_eq (by rw [show (0 : Int).toNat = 0 from rfl, show gblk 1 0 = [] from rfl, gput_nil, zuA_id' 27 ho]) hf)
theorem c_X3_goesFrom {G : zG} {r : Nat} {ad : Nat → Nat} {h0 : zHp} (hI : zRI r ad) {σ : zS} {h : zHp} (hf : zRf r ad σ h0 h) {g : Nat → Int} (hg : σ.2 1 = g) (k : Int) (f : Int) (t : Int) (w1 : 0 ≤ g 0) (w2 : g 0 ≤ 80) (hk : zR k) (hf1 : 1 ≤ f) (hf2 : f ≤ t) (hf3 : t ≤ g 0) : zC G yX3_goesFrom cX3_goesFrom 4 (some Jvm.ClassFile.FieldType.int) 3 64 0 0 [zp r, zi k, zi f, zi t] h (zPi (fun x h' => x = ggf g k f t ∧ zR x ∧ zRf r ad σ h0 h') zNo) := by
  refine zC.of zpn_X3 (Nat.le_of_ble_eq_true rfl) (L := [(0, zp r), (1, zi k), (2, zi f), (3, zi t)]) rfl (fun K hO => ?_)
  obtain ⟨hka, hkb⟩ := hk
  have hgn := gnu_in g k
  refine zr_iload_n hO (hl := rfl) (j := 1) (hi := rfl) dX3_goesFrom_0 ?_
  refine zr_iconst hO dX3_goesFrom_1 ?_
  refine zr_icmp_eq hO ⟨by omega, by omega⟩ ⟨by omega, by omega⟩ (tgt := 18) dX3_goesFrom_2 rfl (fun c2 => ?_) (fun c2 => ?_)
  · skip
    refine zr_iload_n hO (hl := rfl) (j := 1) (hi := rfl) dX3_goesFrom_18 ?_
    exact zr_ireturn hO dX3_goesFrom_19 ⟨(by unfold ggf; first | rw [if_pos (by omega)] | rw [if_neg (by omega), if_pos (by omega)] | rw [if_neg (by omega), if_neg (by omega), if_pos (by omega)] | rw [if_neg (by omega), if_neg (by omega), if_neg (by omega)]), ⟨by omega, by omega⟩, hf⟩
  · skip
    refine zr_aload_n hO (hl := rfl) (j := 0) (hi := rfl) dX3_goesFrom_5 ?_
    refine zr_iload_n hO (hl := rfl) (j := 1) (hi := rfl) dX3_goesFrom_6 ?_
    refine zr_cVi hO zc_X3 zw_X3_192 (c_X3_numberOf hI hf hg k (⟨by omega, by omega⟩) (by omega) (by omega)) dX3_goesFrom_7 (zrd_of hf.1) rfl (rest := []) rfl ⟨Nat.le_of_ble_eq_true rfl, Nat.le_of_ble_eq_true rfl⟩ (Nat.le_of_ble_eq_true rfl) (Nat.le_refl _) (Nat.le_refl _) (fun x h hx => ?_)
    obtain ⟨hx, hf⟩ := hx
    have hx : x = gnu g k := hx
    subst hx
    refine zr_iload_n hO (hl := rfl) (j := 2) (hi := rfl) dX3_goesFrom_10 ?_
    refine zr_iload_n hO (hl := rfl) (j := 3) (hi := rfl) dX3_goesFrom_11 ?_
    refine zr_cSi hO zw_X3_95 (c_X3_in (gnu g k) f t (⟨by omega, by omega⟩) (⟨by omega, by omega⟩) (⟨by omega, by omega⟩)) dX3_goesFrom_12 rfl (rest := []) rfl ⟨Nat.le_of_ble_eq_true rfl, Nat.le_of_ble_eq_true rfl⟩ (Nat.le_of_ble_eq_true rfl) (Nat.le_refl _) (Nat.le_refl _) (fun x h hx => ?_)
    obtain ⟨hx, rfl⟩ := hx
    have hx : x = zB (f ≤ (gnu g k) ∧ (gnu g k) ≤ t) := hx
    subst hx
    refine zr_if_ne hO (zR_B _) (tgt := 20) dX3_goesFrom_15 rfl (fun c15 => ?_) (fun c15 => ?_)
    · skip
      have c15 := zB_ne c15
      refine zr_iload_n hO (hl := rfl) (j := 3) (hi := rfl) dX3_goesFrom_20 ?_
      refine zr_aload_n hO (hl := rfl) (j := 0) (hi := rfl) dX3_goesFrom_21 ?_
      refine zs_arr hO hf 1 dX3_goesFrom_22 q2971 (Nat.le_of_ble_eq_true rfl) rfl ?_
      refine zr_iconst hO dX3_goesFrom_25 ?_
      refine zs_ild hO hf 1 (f := g) (n := 2195) (j := 0) dX3_goesFrom_26 rfl rfl rfl hg (by omega) (by omega) rfl (fun ⟨r2a, r2b⟩ => ?_)
      refine zr_icmp_ge hO ⟨by omega, by omega⟩ ⟨by omega, by omega⟩ (tgt := 41) dX3_goesFrom_27 rfl (fun c27 => ?_) (fun c27 => ?_)
      · skip
        refine zr_iload_n hO (hl := rfl) (j := 2) (hi := rfl) dX3_goesFrom_41 ?_
        refine zr_iconst hO dX3_goesFrom_42 ?_
        refine zr_icmp_le hO ⟨by omega, by omega⟩ ⟨by omega, by omega⟩ (tgt := 57) dX3_goesFrom_43 rfl (fun c43 => ?_) (fun c43 => ?_)
        · skip
          refine zr_iconst hO dX3_goesFrom_57 ?_
          exact zr_ireturn hO dX3_goesFrom_58 ⟨(by unfold ggf; first | rw [if_pos (by omega)] | rw [if_neg (by omega), if_pos (by omega)] | rw [if_neg (by omega), if_neg (by omega), if_pos (by omega)] | rw [if_neg (by omega), if_neg (by omega), if_neg (by omega)]), ⟨by omega, by omega⟩, hf⟩
        · skip
          refine zr_aload_n hO (hl := rfl) (j := 0) (hi := rfl) dX3_goesFrom_46 ?_
          refine zr_iload_n hO (hl := rfl) (j := 2) (hi := rfl) dX3_goesFrom_47 ?_
          refine zr_iconst hO dX3_goesFrom_48 ?_
          refine zr_isub hO dX3_goesFrom_49 ?_
          refine zr_iconst hO dX3_goesFrom_50 ?_
          refine zr_cVi hO zc_X3 zw_X3_129 (c_X3_of hI hf hg (f - 1) 0 (by omega) (by omega)) dX3_goesFrom_51 (zrd_of hf.1) rfl (rest := []) rfl ⟨Nat.le_of_ble_eq_true rfl, Nat.le_of_ble_eq_true rfl⟩ (Nat.le_of_ble_eq_true rfl) (Nat.le_refl _) (Nat.le_refl _) (fun x h hx => ?_)
          obtain ⟨hx, ⟨r3a, r3b⟩, hf⟩ := hx
          have hx : x = gky g (f - 1) := hx
          subst hx
          refine zr_goto hO (tgt := 58) dX3_goesFrom_54 rfl ?_
          exact zr_ireturn hO dX3_goesFrom_58 ⟨(by unfold ggf; first | rw [if_pos (by omega)] | rw [if_neg (by omega), if_pos (by omega)] | rw [if_neg (by omega), if_neg (by omega), if_pos (by omega)] | rw [if_neg (by omega), if_neg (by omega), if_neg (by omega)]), ⟨by omega, by omega⟩, hf⟩
      · skip
        refine zr_aload_n hO (hl := rfl) (j := 0) (hi := rfl) dX3_goesFrom_30 ?_
        refine zr_iload_n hO (hl := rfl) (j := 3) (hi := rfl) dX3_goesFrom_31 ?_
        refine zr_iconst hO dX3_goesFrom_32 ?_
        refine zr_iadd hO dX3_goesFrom_33 ?_
        refine zr_iconst hO dX3_goesFrom_34 ?_
        refine zr_cVi hO zc_X3 zw_X3_129 (c_X3_of hI hf hg (t + 1) 0 (by omega) (by omega)) dX3_goesFrom_35 (zrd_of hf.1) rfl (rest := []) rfl ⟨Nat.le_of_ble_eq_true rfl, Nat.le_of_ble_eq_true rfl⟩ (Nat.le_of_ble_eq_true rfl) (Nat.le_refl _) (Nat.le_refl _) (fun x h hx => ?_)
        obtain ⟨hx, ⟨r4a, r4b⟩, hf⟩ := hx
        have hx : x = gky g (t + 1) := hx
        subst hx
        refine zr_goto hO (tgt := 58) dX3_goesFrom_38 rfl ?_
        exact zr_ireturn hO dX3_goesFrom_58 ⟨(by unfold ggf; first | rw [if_pos (by omega)] | rw [if_neg (by omega), if_pos (by omega)] | rw [if_neg (by omega), if_neg (by omega), if_pos (by omega)] | rw [if_neg (by omega), if_neg (by omega), if_neg (by omega)]), ⟨by omega, by omega⟩, hf⟩
    · skip
      have c15 := zB_eq c15
      refine zr_iload_n hO (hl := rfl) (j := 1) (hi := rfl) dX3_goesFrom_18 ?_
      exact zr_ireturn hO dX3_goesFrom_19 ⟨(by unfold ggf; first | rw [if_pos (by omega)] | rw [if_neg (by omega), if_pos (by omega)] | rw [if_neg (by omega), if_neg (by omega), if_pos (by omega)] | rw [if_neg (by omega), if_neg (by omega), if_neg (by omega)]), ⟨by omega, by omega⟩, hf⟩
theorem c_X3_mayRange {G : zG} {r : Nat} {ad : Nat → Nat} {h0 : zHp} (hI : zRI r ad) {σ : zS} {h : zHp} (hf : zRf r ad σ h0 h) {g : Nat → Int} (hg : σ.2 1 = g) (f : Int) (t : Int) (hf1 : zR f) (ht1 : zR t) : zC G yX3_mayRange cX3_mayRange 3 (some Jvm.ClassFile.FieldType.boolean) 2 43 0 0 [zp r, zi f, zi t] h (zPi (fun x h' => x = zB (((1 ≤ f ∧ f ≤ g 0) ∧ (1 ≤ t ∧ t ≤ g 0)) ∧ f ≤ t) ∧ zRf r ad (zuS σ 0 (if zB ((1 ≤ f ∧ f ≤ g 0) ∧ (1 ≤ t ∧ t ≤ g 0)) = 0 then 1 else 2 - 2 * zB (f ≤ t))) h0 h') zNo) := by
  refine zC.of zpn_X3 (Nat.le_of_ble_eq_true rfl) (L := [(0, zp r), (1, zi f), (2, zi t)]) rfl (fun K hO => ?_)
  obtain ⟨hf1a, hf1b⟩ := hf1
  obtain ⟨ht1a, ht1b⟩ := ht1
  have hj22 : ∀ (b : Int) (hb : b = zB ((1 ≤ f ∧ f ≤ g 0) ∧ (1 ≤ t ∧ t ≤ g 0))) (h : zHp) (hf : zRf r ad σ h0 h), zV G K 0 0 h 22 [(0, zp r), (1, zi f), (2, zi t)] [zi b, zp r] := by
    intro b hb h hf
    subst hb
    refine zr_iload_n hO (hl := rfl) (j := 2) (hi := rfl) dX3_mayRange_22 ?_
    have hj32 : ∀ (b : Int) (hb : b = zB (f ≤ t)) (h : zHp) (hf : zRf r ad σ h0 h), zV G K 0 0 h 32 [(0, zp r), (1, zi f), (2, zi t)] [zi b, zi (zB ((1 ≤ f ∧ f ≤ g 0) ∧ (1 ≤ t ∧ t ≤ g 0))), zp r] := by
      intro b hb h hf
      subst hb
      refine zr_cVi hO zc_X3 zw_X3_170 (c_X3_mayBoth hI hf (zB ((1 ≤ f ∧ f ≤ g 0) ∧ (1 ≤ t ∧ t ≤ g 0))) (zB (f ≤ t)) (zB_01 _) (zB_01 _)) dX3_mayRange_32 (zrd_of hf.1) rfl (rest := []) rfl ⟨Nat.le_of_ble_eq_true rfl, Nat.le_of_ble_eq_true rfl⟩ (Nat.le_of_ble_eq_true rfl) (Nat.le_refl _) (Nat.le_refl _) (fun x h hx => ?_)
      obtain ⟨hx, hf⟩ := hx
      have hx : x = zB ((zB ((1 ≤ f ∧ f ≤ g 0) ∧ (1 ≤ t ∧ t ≤ g 0))) = 1 ∧ (zB (f ≤ t)) = 1) := hx
      subst hx
      have hf : zRf r ad (zuS σ 0 (if (zB ((1 ≤ f ∧ f ≤ g 0) ∧ (1 ≤ t ∧ t ≤ g 0))) = 0 then 1 else 2 - 2 * (zB (f ≤ t)))) h0 h := hf
      rw [show (zB ((zB ((1 ≤ f ∧ f ≤ g 0) ∧ (1 ≤ t ∧ t ≤ g 0))) = 1 ∧ (zB (f ≤ t)) = 1)) = zB (((1 ≤ f ∧ f ≤ g 0) ∧ (1 ≤ t ∧ t ≤ g 0)) ∧ f ≤ t) from zB_and _ _]
      exact zr_zreturn hO (znz (zB_01 _)) dX3_mayRange_35 ⟨rfl, hf⟩
    refine zr_iload_n hO (hl := rfl) (j := 1) (hi := rfl) dX3_mayRange_23 ?_
    refine zr_icmp_lt hO ⟨by omega, by omega⟩ ⟨by omega, by omega⟩ (tgt := 31) dX3_mayRange_24 rfl (fun c24 => ?_) (fun c24 => ?_)
    · skip
      refine zr_iconst hO dX3_mayRange_31 ?_
      exact hj32 0 ((zB_f (by omega)).symm) h hf
    · skip
      refine zr_iconst hO dX3_mayRange_27 ?_
      refine zr_goto hO (tgt := 32) dX3_mayRange_28 rfl ?_
      exact hj32 1 ((zB_t (by omega)).symm) h hf
  refine zr_aload_n hO (hl := rfl) (j := 0) (hi := rfl) dX3_mayRange_0 ?_
  refine zr_aload_n hO (hl := rfl) (j := 0) (hi := rfl) dX3_mayRange_1 ?_
  refine zr_iload_n hO (hl := rfl) (j := 1) (hi := rfl) dX3_mayRange_2 ?_
  refine zr_cVi hO zc_X3 zw_X3_167 (c_X3_isLine hI hf hg f (⟨by omega, by omega⟩)) dX3_mayRange_3 (zrd_of hf.1) rfl (rest := [zp r]) rfl ⟨Nat.le_of_ble_eq_true rfl, Nat.le_of_ble_eq_true rfl⟩ (Nat.le_of_ble_eq_true rfl) (Nat.le_refl _) (Nat.le_refl _) (fun x h hx => ?_)
  obtain ⟨hx, hf⟩ := hx
  have hx : x = zB (1 ≤ f ∧ f ≤ g 0) := hx
  subst hx
  refine zr_if_eq hO (zR_B _) (tgt := 21) dX3_mayRange_6 rfl (fun c6 => ?_) (fun c6 => ?_)
  · skip
    have c6 := zB_eq c6
    refine zr_iconst hO dX3_mayRange_21 ?_
    exact hj22 0 ((zB_f (by omega)).symm) h hf
  · skip
    have c6 := zB_ne c6
    refine zr_aload_n hO (hl := rfl) (j := 0) (hi := rfl) dX3_mayRange_9 ?_
    refine zr_iload_n hO (hl := rfl) (j := 2) (hi := rfl) dX3_mayRange_10 ?_
    refine zr_cVi hO zc_X3 zw_X3_167 (c_X3_isLine hI hf hg t (⟨by omega, by omega⟩)) dX3_mayRange_11 (zrd_of hf.1) rfl (rest := [zp r]) rfl ⟨Nat.le_of_ble_eq_true rfl, Nat.le_of_ble_eq_true rfl⟩ (Nat.le_of_ble_eq_true rfl) (Nat.le_refl _) (Nat.le_refl _) (fun x h hx => ?_)
    obtain ⟨hx, hf⟩ := hx
    have hx : x = zB (1 ≤ t ∧ t ≤ g 0) := hx
    subst hx
    refine zr_if_eq hO (zR_B _) (tgt := 21) dX3_mayRange_14 rfl (fun c14 => ?_) (fun c14 => ?_)
    · skip
      have c14 := zB_eq c14
      refine zr_iconst hO dX3_mayRange_21 ?_
      exact hj22 0 ((zB_f (by omega)).symm) h hf
    · skip
      have c14 := zB_ne c14
      refine zr_iconst hO dX3_mayRange_17 ?_
      refine zr_goto hO (tgt := 22) dX3_mayRange_18 rfl ?_
      exact hj22 1 ((zB_t (by omega)).symm) h hf
theorem zw_X3_281 : zYw RX3 RX3 281 yX3_laysOrder cX3_laysOrder 2 none 0 := ⟨q3456, q3458, qs93, q116, q3459, rfl, ⟨by decide +kernel, by decide +kernel, by decide +kernel⟩⟩
theorem zw_X3_284 : zYw RX3 RX3 284 yX3_arranges cX3_arranges 3 none 0 := ⟨q3460, q3462, qs94, q116, q3463, rfl, ⟨by decide +kernel, by decide +kernel, by decide +kernel⟩⟩
theorem c_X3_goes {G : zG} {r : Nat} {ad : Nat → Nat} {h0 : zHp} (hI : zRI r ad) {σ : zS} {h : zHp} (hf : zRf r ad σ h0 h) {g : Nat → Int} (hg : σ.2 1 = g) {o : Nat → Int} (ho : σ.2 27 = o) {m : Nat → Int} (hm : σ.2 28 = m) (f : Int) (t : Int) (b : Int) (w1 : 0 ≤ g 0) (w2 : g 0 ≤ 80) (hf1 : 1 ≤ f) (hf2 : f ≤ t) (hf3 : t ≤ g 0) (hb1 : 1 ≤ b) (hb2 : b ≤ g 0 + 1) : zC G yX3_goes cX3_goes 7 none 3 64 0 0 [zp r, zi f, zi t, zi b] h (zPv (fun h' => zRf r ad (zuA (zuA (zuA σ 27 (ggo (g 0) f t b o)) 28 (gmvd g (ggo (g 0) f t b o) m (27 * g 0))) 1 (garr g (ggo (g 0) f t b o) (27 * g 0))) h0 h') zNo) := by
  refine zC.of zpn_X3 (Nat.le_of_ble_eq_true rfl) (L := [(0, zp r), (1, zi f), (2, zi t), (3, zi b)]) rfl (fun K hO => ?_)
  refine zr_aload_n hO (hl := rfl) (j := 0) (hi := rfl) dX3_goes_0 ?_
  refine zr_cVv hO zc_X3 zw_X3_281 (c_X3_laysOrder hI hf hg ho  (w1) (w2)) dX3_goes_1 (zrd_of hf.1) rfl (rest := []) rfl ⟨Nat.le_of_ble_eq_true rfl, Nat.le_of_ble_eq_true rfl⟩ (Nat.le_of_ble_eq_true rfl) (Nat.le_refl _) (Nat.le_refl _) (fun h hx => ?_)
  have hf : zRf r ad (zuA σ 27 (gput (gblk 1 (g 0).toNat) o)) h0 h := hx
  clear hx
  refine zr_iconst hO dX3_goes_4 ?_
  refine zr_istore hO (L' := [(4, zi 0), (0, zp r), (1, zi f), (2, zi t), (3, zi b)]) dX3_goes_5 (Nat.le_of_ble_eq_true rfl) rfl ?_
  refine zr_iconst hO dX3_goes_7 ?_
  refine zr_istore hO (L' := [(5, zi 1), (4, zi 0), (0, zp r), (1, zi f), (2, zi t), (3, zi b)]) dX3_goes_8 (Nat.le_of_ble_eq_true rfl) rfl ?_
  have hl10 : ∀ (n9 : Nat) (c n : Int), (g 0 + 2 - n).toNat = n9 → ∀ (i1 : 1 ≤ n) (i2 : n ≤ g 0 + 2) (i3 : c = ((gord (g 0) f t b (n - 1).toNat).length : Int)) (h : zHp) (hf : zRf r ad (zuA σ 27 (gput (gord (g 0) f t b (n - 1).toNat) (gput (gblk 1 (g 0).toNat) o))) h0 h), zV G K 0 0 h 10 [(0, zp r), (1, zi f), (2, zi t), (3, zi b), (4, zi c), (5, zi n)] [] := by
    intro n9
    induction n9 using Nat.strongRecOn with
    | _ n9 ih10 =>
    intro c n hn10 i1 i2 i3 h hf
    have hgl := gord_len (N := g 0) (b := b) hf1 hf2 hf3 hb1 (n - 1).toNat
    refine zr_iload hO (hl := rfl) (j := 5) dX3_goes_10 ?_
    refine zr_aload_n hO (hl := rfl) (j := 0) (hi := rfl) dX3_goes_12 ?_
    refine zs_arr hO hf 1 dX3_goes_13 q2971 (Nat.le_of_ble_eq_true rfl) rfl ?_
    refine zr_iconst hO dX3_goes_16 ?_
    refine zs_ild hO hf 1 (f := g) (n := 2195) (j := 0) dX3_goes_17 rfl rfl rfl hg (by omega) (by omega) rfl (fun ⟨r1a, r1b⟩ => ?_)
    refine zr_iconst hO dX3_goes_18 ?_
    refine zr_iadd hO dX3_goes_19 ?_
    refine zr_icmp_gt hO ⟨by omega, by omega⟩ ⟨by omega, by omega⟩ (tgt := 95) dX3_goes_20 rfl (fun c20 => ?_) (fun c20 => ?_)
    · skip
      refine zr_aload_n hO (hl := rfl) (j := 0) (hi := rfl) dX3_goes_95 ?_
      refine zr_cVv hO zc_X3 zw_X3_284 (c_X3_arranges hI hf hg (zuA_at σ 27 (gput (gord (g 0) f t b (n - 1).toNat) (gput (gblk 1 (g 0).toNat) o))) hm  (w1) (w2) (by rw [show n - 1 = g 0 + 1 by omega]; exact gord_ok f t b hf1 hf2 hf3 hb1 hb2 w2 o)) dX3_goes_96 (zrd_of hf.1) rfl (rest := []) rfl ⟨Nat.le_of_ble_eq_true rfl, Nat.le_of_ble_eq_true rfl⟩ (Nat.le_of_ble_eq_true rfl) (Nat.le_refl _) (Nat.le_refl _) (fun h hx => ?_)
      have hf : zRf r ad (zuA (zuA (zuA σ 27 (gput (gord (g 0) f t b (n - 1).toNat) (gput (gblk 1 (g 0).toNat) o))) 28 (gmvd g (gput (gord (g 0) f t b (n - 1).toNat) (gput (gblk 1 (g 0).toNat) o)) m (27 * g 0))) 1 (garr g (gput (gord (g 0) f t b (n - 1).toNat) (gput (gblk 1 (g 0).toNat) o)) (27 * g 0))) h0 h := hx
      clear hx
      exact zr_return hO dX3_goes_99 (zRf_eq (by rw [show n - 1 = g 0 + 1 by omega]; rfl) hf)
    · skip
      refine zr_iload_n hO (hl := rfl) (j := 1) (hi := rfl) dX3_goes_23 ?_
      refine zr_istore hO (L' := [(6, zi f), (0, zp r), (1, zi f), (2, zi t), (3, zi b), (4, zi c), (5, zi n)]) dX3_goes_24 (Nat.le_of_ble_eq_true rfl) rfl ?_
      have hl26 : ∀ (n9 : Nat) (c2 y : Int), (t + 1 - y).toNat = n9 → ∀ (j1 : f ≤ y) (j2 : y ≤ t + 1) (j3 : c2 = ((gord (g 0) f t b (n - 1).toNat ++ gblk f (y - f).toNat).length : Int)) (j4 : n ≠ b → y = f) (h : zHp) (hf : zRf r ad (zuA σ 27 (gput (gord (g 0) f t b (n - 1).toNat ++ gblk f (y - f).toNat) (gput (gblk 1 (g 0).toNat) o))) h0 h), zV G K 0 0 h 26 [(0, zp r), (1, zi f), (2, zi t), (3, zi b), (4, zi c2), (5, zi n), (6, zi y)] [] := by
        intro n9
        induction n9 using Nat.strongRecOn with
        | _ n9 ih26 =>
        intro c2 y hn26 j1 j2 j3 j4 h hf
        have hll : ((gord (g 0) f t b (n - 1).toNat ++ gblk f (y - f).toNat).length : Int) = (gord (g 0) f t b (n - 1).toNat).length + (y - f).toNat := by rw [List.length_append, gblk_len]; rfl
        have hgl2 := hgl
        have hgb : (if b ≤ ((n - 1).toNat : Int) then t + 1 - f else 0) = if b ≤ n - 1 then t + 1 - f else 0 := by rw [Int.toNat_of_nonneg (by omega)]
        rw [hgb] at hgl2
        refine zr_iload hO (hl := rfl) (j := 5) dX3_goes_26 ?_
        refine zr_iload_n hO (hl := rfl) (j := 3) (hi := rfl) dX3_goes_28 ?_
        refine zr_icmp_ne hO ⟨by omega, by omega⟩ ⟨by omega, by omega⟩ (tgt := 56) dX3_goes_29 rfl (fun c29 => ?_) (fun c29 => ?_)
        · skip
          have hbk : (if n = b then gblk f (t + 1 - f).toNat else []) = gblk f (y - f).toNat := by by_cases q : n = b; (rw [if_pos q, show t + 1 - f = y - f by omega]); (rw [if_neg q, j4 q, show (f - f).toNat = 0 by omega]; rfl)
          refine zr_iload hO (hl := rfl) (j := 5) dX3_goes_56 ?_
          refine zr_aload_n hO (hl := rfl) (j := 0) (hi := rfl) dX3_goes_58 ?_
          refine zs_arr hO hf 1 dX3_goes_59 q2971 (Nat.le_of_ble_eq_true rfl) rfl ?_
          refine zr_iconst hO dX3_goes_62 ?_
          refine zs_ild hO hf 1 (f := g) (n := 2195) (j := 0) dX3_goes_63 rfl rfl rfl hg (by omega) (by omega) rfl (fun ⟨r2a, r2b⟩ => ?_)
          refine zr_icmp_gt hO ⟨by omega, by omega⟩ ⟨by omega, by omega⟩ (tgt := 89) dX3_goes_64 rfl (fun c64 => ?_) (fun c64 => ?_)
          · skip
            refine zr_iinc hO (L' := [(5, zi (n + 1)), (0, zp r), (1, zi f), (2, zi t), (3, zi b), (4, zi c2), (6, zi y)]) (j := 5) dX3_goes_89 rfl (Nat.le_of_ble_eq_true rfl) rfl ?_
            refine zr_goto hO (tgt := 10) dX3_goes_92 rfl ?_
            refine zV.loc [1, 2, 3, 4, 5, 0] rfl ?_
            exact ih10 _ (by omega) c2 (n + 1) rfl (by omega) (by omega) (by rw [show n + 1 - 1 = n by omega, gord_p _ _ _ _ i1, hbk, if_neg (by omega), List.length_append, List.length_append]; rw [List.length_append] at j3; simp only [List.length_nil]; omega) h (zRf_eq (by rw [show n + 1 - 1 = n by omega, gord_p _ _ _ _ i1, hbk, if_neg (by omega), List.append_nil]) hf)
          · skip
            refine zr_iload hO (hl := rfl) (j := 5) dX3_goes_67 ?_
            refine zr_iload_n hO (hl := rfl) (j := 1) (hi := rfl) dX3_goes_69 ?_
            refine zr_iload_n hO (hl := rfl) (j := 2) (hi := rfl) dX3_goes_70 ?_
            refine zr_cSi hO zw_X3_95 (c_X3_in n f t (⟨by omega, by omega⟩) (⟨by omega, by omega⟩) (⟨by omega, by omega⟩)) dX3_goes_71 rfl (rest := []) rfl ⟨Nat.le_of_ble_eq_true rfl, Nat.le_of_ble_eq_true rfl⟩ (Nat.le_of_ble_eq_true rfl) (Nat.le_refl _) (Nat.le_refl _) (fun x h hx => ?_)
            obtain ⟨hx, rfl⟩ := hx
            have hx : x = zB (f ≤ n ∧ n ≤ t) := hx
            subst hx
            refine zr_if_ne hO (zR_B _) (tgt := 89) dX3_goes_74 rfl (fun c74 => ?_) (fun c74 => ?_)
            · skip
              have c74 := zB_ne c74
              refine zr_iinc hO (L' := [(5, zi (n + 1)), (0, zp r), (1, zi f), (2, zi t), (3, zi b), (4, zi c2), (6, zi y)]) (j := 5) dX3_goes_89 rfl (Nat.le_of_ble_eq_true rfl) rfl ?_
              refine zr_goto hO (tgt := 10) dX3_goes_92 rfl ?_
              refine zV.loc [1, 2, 3, 4, 5, 0] rfl ?_
              exact ih10 _ (by omega) c2 (n + 1) rfl (by omega) (by omega) (by rw [show n + 1 - 1 = n by omega, gord_p _ _ _ _ i1, hbk, if_neg (by omega), List.length_append, List.length_append]; rw [List.length_append] at j3; simp only [List.length_nil]; omega) h (zRf_eq (by rw [show n + 1 - 1 = n by omega, gord_p _ _ _ _ i1, hbk, if_neg (by omega), List.append_nil]) hf)
            · skip
              have c74 := zB_eq c74
              have hgl3 : ((gord (g 0) f t b (n - 1).toNat ++ gblk f (y - f).toNat).length : Int) < 80 := by by_cases q : n = b; (rw [if_neg (show ¬ b ≤ n - 1 by omega)] at hgl2; omega); (have := j4 q; split at hgl2 <;> omega)
              refine zr_aload_n hO (hl := rfl) (j := 0) (hi := rfl) dX3_goes_77 ?_
              refine zs_arr hO hf 27 dX3_goes_78 q2997 (Nat.le_of_ble_eq_true rfl) rfl ?_
              refine zr_iload hO (hl := rfl) (j := 4) dX3_goes_81 ?_
              refine zr_iload hO (hl := rfl) (j := 5) dX3_goes_83 ?_
              refine zs_ist hO hI hf 27 (f := gput (gord (g 0) f t b (n - 1).toNat ++ gblk f (y - f).toNat) (gput (gblk 1 (g 0).toNat) o)) (n := 80) (j := (gord (g 0) f t b (n - 1).toNat ++ gblk f (y - f).toNat).length) dX3_goes_85 rfl rfl rfl rfl (by omega) (by omega) (by omega) ⟨by omega, by omega⟩ (fun h hf => ?_)
              refine zr_iinc hO (L' := [(4, zi (c2 + 1)), (0, zp r), (1, zi f), (2, zi t), (3, zi b), (5, zi n), (6, zi y)]) (j := 4) dX3_goes_86 rfl (Nat.le_of_ble_eq_true rfl) rfl ?_
              refine zr_iinc hO (L' := [(5, zi (n + 1)), (4, zi (c2 + 1)), (0, zp r), (1, zi f), (2, zi t), (3, zi b), (6, zi y)]) (j := 5) dX3_goes_89 rfl (Nat.le_of_ble_eq_true rfl) rfl ?_
              refine zr_goto hO (tgt := 10) dX3_goes_92 rfl ?_
              refine zV.loc [2, 3, 4, 5, 1, 0] rfl ?_
              exact ih10 _ (by omega) (c2 + 1) (n + 1) rfl (by omega) (by omega) (by rw [show n + 1 - 1 = n by omega, gord_p _ _ _ _ i1, hbk, if_pos (by omega), List.length_append, List.length_append]; rw [List.length_append] at j3; show c2 + 1 = _; simp only [List.length_cons, List.length_nil]; omega) h (zRf_eq (by rw [zuA_uA, gput_s, show n + 1 - 1 = n by omega, gord_p _ _ _ _ i1, hbk, if_pos (by omega)]) hf)
        · skip
          refine zr_iload hO (hl := rfl) (j := 6) dX3_goes_32 ?_
          refine zr_iload_n hO (hl := rfl) (j := 2) (hi := rfl) dX3_goes_34 ?_
          refine zr_icmp_gt hO ⟨by omega, by omega⟩ ⟨by omega, by omega⟩ (tgt := 56) dX3_goes_35 rfl (fun c35 => ?_) (fun c35 => ?_)
          · skip
            have hbk : (if n = b then gblk f (t + 1 - f).toNat else []) = gblk f (y - f).toNat := by by_cases q : n = b; (rw [if_pos q, show t + 1 - f = y - f by omega]); (rw [if_neg q, j4 q, show (f - f).toNat = 0 by omega]; rfl)
            refine zr_iload hO (hl := rfl) (j := 5) dX3_goes_56 ?_
            refine zr_aload_n hO (hl := rfl) (j := 0) (hi := rfl) dX3_goes_58 ?_
            refine zs_arr hO hf 1 dX3_goes_59 q2971 (Nat.le_of_ble_eq_true rfl) rfl ?_
            refine zr_iconst hO dX3_goes_62 ?_
            refine zs_ild hO hf 1 (f := g) (n := 2195) (j := 0) dX3_goes_63 rfl rfl rfl hg (by omega) (by omega) rfl (fun ⟨r3a, r3b⟩ => ?_)
            refine zr_icmp_gt hO ⟨by omega, by omega⟩ ⟨by omega, by omega⟩ (tgt := 89) dX3_goes_64 rfl (fun c64 => ?_) (fun c64 => ?_)
            · skip
              refine zr_iinc hO (L' := [(5, zi (n + 1)), (0, zp r), (1, zi f), (2, zi t), (3, zi b), (4, zi c2), (6, zi y)]) (j := 5) dX3_goes_89 rfl (Nat.le_of_ble_eq_true rfl) rfl ?_
              refine zr_goto hO (tgt := 10) dX3_goes_92 rfl ?_
              refine zV.loc [1, 2, 3, 4, 5, 0] rfl ?_
              exact ih10 _ (by omega) c2 (n + 1) rfl (by omega) (by omega) (by rw [show n + 1 - 1 = n by omega, gord_p _ _ _ _ i1, hbk, if_neg (by omega), List.length_append, List.length_append]; rw [List.length_append] at j3; simp only [List.length_nil]; omega) h (zRf_eq (by rw [show n + 1 - 1 = n by omega, gord_p _ _ _ _ i1, hbk, if_neg (by omega), List.append_nil]) hf)
            · skip
              refine zr_iload hO (hl := rfl) (j := 5) dX3_goes_67 ?_
              refine zr_iload_n hO (hl := rfl) (j := 1) (hi := rfl) dX3_goes_69 ?_
              refine zr_iload_n hO (hl := rfl) (j := 2) (hi := rfl) dX3_goes_70 ?_
              refine zr_cSi hO zw_X3_95 (c_X3_in n f t (⟨by omega, by omega⟩) (⟨by omega, by omega⟩) (⟨by omega, by omega⟩)) dX3_goes_71 rfl (rest := []) rfl ⟨Nat.le_of_ble_eq_true rfl, Nat.le_of_ble_eq_true rfl⟩ (Nat.le_of_ble_eq_true rfl) (Nat.le_refl _) (Nat.le_refl _) (fun x h hx => ?_)
              obtain ⟨hx, rfl⟩ := hx
              have hx : x = zB (f ≤ n ∧ n ≤ t) := hx
              subst hx
              refine zr_if_ne hO (zR_B _) (tgt := 89) dX3_goes_74 rfl (fun c74 => ?_) (fun c74 => ?_)
              · skip
                have c74 := zB_ne c74
                refine zr_iinc hO (L' := [(5, zi (n + 1)), (0, zp r), (1, zi f), (2, zi t), (3, zi b), (4, zi c2), (6, zi y)]) (j := 5) dX3_goes_89 rfl (Nat.le_of_ble_eq_true rfl) rfl ?_
                refine zr_goto hO (tgt := 10) dX3_goes_92 rfl ?_
                refine zV.loc [1, 2, 3, 4, 5, 0] rfl ?_
                exact ih10 _ (by omega) c2 (n + 1) rfl (by omega) (by omega) (by rw [show n + 1 - 1 = n by omega, gord_p _ _ _ _ i1, hbk, if_neg (by omega), List.length_append, List.length_append]; rw [List.length_append] at j3; simp only [List.length_nil]; omega) h (zRf_eq (by rw [show n + 1 - 1 = n by omega, gord_p _ _ _ _ i1, hbk, if_neg (by omega), List.append_nil]) hf)
              · skip
                have c74 := zB_eq c74
                have hgl3 : ((gord (g 0) f t b (n - 1).toNat ++ gblk f (y - f).toNat).length : Int) < 80 := by by_cases q : n = b; (rw [if_neg (show ¬ b ≤ n - 1 by omega)] at hgl2; omega); (have := j4 q; split at hgl2 <;> omega)
                refine zr_aload_n hO (hl := rfl) (j := 0) (hi := rfl) dX3_goes_77 ?_
                refine zs_arr hO hf 27 dX3_goes_78 q2997 (Nat.le_of_ble_eq_true rfl) rfl ?_
                refine zr_iload hO (hl := rfl) (j := 4) dX3_goes_81 ?_
                refine zr_iload hO (hl := rfl) (j := 5) dX3_goes_83 ?_
                refine zs_ist hO hI hf 27 (f := gput (gord (g 0) f t b (n - 1).toNat ++ gblk f (y - f).toNat) (gput (gblk 1 (g 0).toNat) o)) (n := 80) (j := (gord (g 0) f t b (n - 1).toNat ++ gblk f (y - f).toNat).length) dX3_goes_85 rfl rfl rfl rfl (by omega) (by omega) (by omega) ⟨by omega, by omega⟩ (fun h hf => ?_)
                refine zr_iinc hO (L' := [(4, zi (c2 + 1)), (0, zp r), (1, zi f), (2, zi t), (3, zi b), (5, zi n), (6, zi y)]) (j := 4) dX3_goes_86 rfl (Nat.le_of_ble_eq_true rfl) rfl ?_
                refine zr_iinc hO (L' := [(5, zi (n + 1)), (4, zi (c2 + 1)), (0, zp r), (1, zi f), (2, zi t), (3, zi b), (6, zi y)]) (j := 5) dX3_goes_89 rfl (Nat.le_of_ble_eq_true rfl) rfl ?_
                refine zr_goto hO (tgt := 10) dX3_goes_92 rfl ?_
                refine zV.loc [2, 3, 4, 5, 1, 0] rfl ?_
                exact ih10 _ (by omega) (c2 + 1) (n + 1) rfl (by omega) (by omega) (by rw [show n + 1 - 1 = n by omega, gord_p _ _ _ _ i1, hbk, if_pos (by omega), List.length_append, List.length_append]; rw [List.length_append] at j3; show c2 + 1 = _; simp only [List.length_cons, List.length_nil]; omega) h (zRf_eq (by rw [zuA_uA, gput_s, show n + 1 - 1 = n by omega, gord_p _ _ _ _ i1, hbk, if_pos (by omega)]) hf)
          · skip
            rw [if_neg (show ¬ b ≤ n - 1 by omega)] at hgl2
            refine zr_aload_n hO (hl := rfl) (j := 0) (hi := rfl) dX3_goes_38 ?_
            refine zs_arr hO hf 27 dX3_goes_39 q2997 (Nat.le_of_ble_eq_true rfl) rfl ?_
            refine zr_iload hO (hl := rfl) (j := 4) dX3_goes_42 ?_
            refine zr_iload hO (hl := rfl) (j := 6) dX3_goes_44 ?_
            refine zs_ist hO hI hf 27 (f := gput (gord (g 0) f t b (n - 1).toNat ++ gblk f (y - f).toNat) (gput (gblk 1 (g 0).toNat) o)) (n := 80) (j := (gord (g 0) f t b (n - 1).toNat ++ gblk f (y - f).toNat).length) dX3_goes_46 rfl rfl rfl rfl (by omega) (by omega) (by omega) ⟨by omega, by omega⟩ (fun h hf => ?_)
            refine zr_iinc hO (L' := [(4, zi (c2 + 1)), (0, zp r), (1, zi f), (2, zi t), (3, zi b), (5, zi n), (6, zi y)]) (j := 4) dX3_goes_47 rfl (Nat.le_of_ble_eq_true rfl) rfl ?_
            refine zr_iinc hO (L' := [(6, zi (y + 1)), (4, zi (c2 + 1)), (0, zp r), (1, zi f), (2, zi t), (3, zi b), (5, zi n)]) (j := 6) dX3_goes_50 rfl (Nat.le_of_ble_eq_true rfl) rfl ?_
            refine zr_goto hO (tgt := 26) dX3_goes_53 rfl ?_
            refine zV.loc [2, 3, 4, 5, 1, 6, 0] rfl ?_
            exact ih26 _ (by omega) (c2 + 1) (y + 1) rfl (by omega) (by omega) (by rw [show (y + 1 - f).toNat = (y - f).toNat + 1 by omega, gblk_s, ← List.append_assoc, List.length_append, j3]; rfl) (fun q => absurd (show n = b by omega) q) h (zRf_eq (by rw [zuA_uA, show (y + 1 - f).toNat = (y - f).toNat + 1 by omega, gblk_s, ← List.append_assoc, ← gput_s, show f + ((y - f).toNat : Int) = y by omega]) hf)
      refine zV.loc [1, 2, 3, 4, 5, 6, 0] rfl ?_
      exact hl26 _ c f rfl (by omega) (by omega) (by rw [show (f - f).toNat = 0 by omega, show gblk f 0 = [] from rfl, List.append_nil]; exact i3) (fun _ => rfl) h (zRf_eq (by rw [show (f - f).toNat = 0 by omega, show gblk f 0 = [] from rfl, List.append_nil]) hf)
  refine zV.loc [2, 3, 4, 5, 1, 0] rfl ?_
  exact hl10 _ 0 1 rfl (by omega) (by omega) (rfl) h (zRf_eq (by rw [show ((1 : Int) - 1).toNat = 0 from rfl, gord, gput_nil]) hf)
theorem zw_X3_287 : zYw RX3 RX3 287 yX3_goes cX3_goes 7 none 3 := ⟨q3452, q3454, qs92, q116, q3455, rfl, ⟨by decide +kernel, by decide +kernel, by decide +kernel⟩⟩
theorem c_X3_settles {G : zG} {r : Nat} {ad : Nat → Nat} {h0 : zHp} (hI : zRI r ad) {σ : zS} {h : zHp} (hf : zRf r ad σ h0 h) {g : Nat → Int} (hg : σ.2 1 = g) {o : Nat → Int} (ho : σ.2 27 = o) {m : Nat → Int} (hm : σ.2 28 = m) (b : Int) (w1 : 1 ≤ g 0) (w2 : g 0 ≤ 80) (hb1 : 1 ≤ b) (hb2 : b ≤ 81) : zC G yX3_settles cX3_settles 3 none 4 90 0 0 [zp r, zi b] h (zPv (fun h' => ∃ τ : zS, zCo (zuA σ 1 (gsetG g b o)) τ ∧ τ.1 0 = σ.1 0 ∧ zRf r ad τ h0 h') zNo) := by
  refine zC.of zpn_X3 (Nat.le_of_ble_eq_true rfl) (L := [(0, zp r), (1, zi b)]) rfl (fun K hO => ?_)
  refine zr_aload_n hO (hl := rfl) (j := 0) (hi := rfl) dX3_settles_0 ?_
  refine zs_arr hO hf 1 dX3_settles_1 q2971 (Nat.le_of_ble_eq_true rfl) rfl ?_
  refine zr_iconst hO dX3_settles_4 ?_
  refine zs_ild hO hf 1 (f := g) (n := 2195) (j := 0) dX3_settles_5 rfl rfl rfl hg (by omega) (by omega) rfl (fun ⟨r1a, r1b⟩ => ?_)
  refine zr_istore_n hO (L' := [(2, zi (g 0)), (0, zp r), (1, zi b)]) (hi := rfl) dX3_settles_6 (Nat.le_of_ble_eq_true rfl) rfl ?_
  have hj24 : ∀ (q : Nat → Int) (hq : gset1 g = q) (h : zHp) (hf : zRf r ad (zuA σ 1 q) h0 h), zV G K 0 0 h 24 [(2, zi (g 0)), (0, zp r), (1, zi b)] [] := by
    intro q hq h hf
    have hq0 : q 0 = g 0 := by rw [← hq]; exact gset1_0 g
    refine zr_iload_n hO (hl := rfl) (j := 2) (hi := rfl) dX3_settles_24 ?_
    refine zr_iload_n hO (hl := rfl) (j := 0) (hi := rfl) dX3_settles_25 ?_
    refine zr_icmp_ge hO ⟨by omega, by omega⟩ ⟨by omega, by omega⟩ (tgt := 36) dX3_settles_26 rfl (fun c26 => ?_) (fun c26 => ?_)
    · skip
      exact zr_return hO dX3_settles_36 ⟨zuA σ 1 q, (by unfold gsetG; rw [if_neg (by omega), hq]; exact zCo.refl _), rfl, hf⟩
    · skip
      refine zr_aload_n hO (hl := rfl) (j := 1) (hi := rfl) dX3_settles_29 ?_
      refine zr_iload_n hO (hl := rfl) (j := 0) (hi := rfl) dX3_settles_30 ?_
      refine zr_iload_n hO (hl := rfl) (j := 0) (hi := rfl) dX3_settles_31 ?_
      refine zr_iload_n hO (hl := rfl) (j := 2) (hi := rfl) dX3_settles_32 ?_
      refine zr_cVv hO zc_X3 zw_X3_287 (c_X3_goes hI hf (zuA_at σ 1 q) ho hm (g 0) (g 0) b (by omega) (by omega) (by omega) (by omega) (by omega) (by omega) (by omega)) dX3_settles_33 (zrd_of hf.1) rfl (rest := []) rfl ⟨Nat.le_of_ble_eq_true rfl, Nat.le_of_ble_eq_true rfl⟩ (Nat.le_of_ble_eq_true rfl) (Nat.le_refl _) (Nat.le_refl _) (fun h hx => ?_)
      have hf : zRf r ad (zuA (zuA (zuA (zuA σ 1 q) 27 (ggo (q 0) (g 0) (g 0) b o)) 28 (gmvd q (ggo (q 0) (g 0) (g 0) b o) m (27 * q 0))) 1 (garr q (ggo (q 0) (g 0) (g 0) b o) (27 * q 0))) h0 h := hx
      clear hx
      exact zr_return hO dX3_settles_36 ⟨zuA (zuA (zuA (zuA σ 1 q) 27 (ggo (q 0) (g 0) (g 0) b o)) 28 (gmvd q (ggo (q 0) (g 0) (g 0) b o) m (27 * q 0))) 1 (garr q (ggo (q 0) (g 0) (g 0) b o) (27 * q 0)), (by unfold gsetG; rw [if_pos (by omega), hq, ← hq0]; exact zCo_go _ _ _ _ _), rfl, hf⟩
  refine zr_iload_n hO (hl := rfl) (j := 0) (hi := rfl) dX3_settles_7 ?_
  refine zr_iconst hO dX3_settles_8 ?_
  refine zr_icmp_ne hO ⟨by omega, by omega⟩ ⟨by omega, by omega⟩ (tgt := 24) dX3_settles_9 rfl (fun c9 => ?_) (fun c9 => ?_)
  · skip
    exact hj24 g (by unfold gset1; rw [if_neg (by omega)]) h (zRf_eq (zuA_id' 1 hg).symm hf)
  · skip
    refine zr_aload_n hO (hl := rfl) (j := 1) (hi := rfl) dX3_settles_12 ?_
    refine zs_arr hO hf 1 dX3_settles_13 q2971 (Nat.le_of_ble_eq_true rfl) rfl ?_
    refine zr_iconst hO dX3_settles_16 ?_
    refine zr_aload_n hO (hl := rfl) (j := 1) (hi := rfl) dX3_settles_17 ?_
    refine zr_iconst hO dX3_settles_18 ?_
    refine zr_iconst hO dX3_settles_19 ?_
    refine zr_cVi hO zc_X3 zw_X3_129 (c_X3_of hI hf hg 1 0 (by omega) (by omega)) dX3_settles_20 (zrd_of hf.1) rfl (rest := [zi 2, zp (ad 1)]) rfl ⟨Nat.le_of_ble_eq_true rfl, Nat.le_of_ble_eq_true rfl⟩ (Nat.le_of_ble_eq_true rfl) (Nat.le_refl _) (Nat.le_refl _) (fun x h hx => ?_)
    obtain ⟨hx, ⟨r2a, r2b⟩, hf⟩ := hx
    have hx : x = gky g 1 := hx
    subst hx
    refine zs_ist hO hI hf 1 (f := g) (n := 2195) (j := 2) dX3_settles_23 rfl rfl rfl hg (by omega) (by omega) rfl ⟨by omega, by omega⟩ (fun h hf => ?_)
    exact hj24 (zset g 2 (gky g 1)) (by unfold gset1; rw [if_pos (by omega)]) h hf
theorem c_X3_takesOff {G : zG} {r : Nat} {ad : Nat → Nat} {h0 : zHp} (hI : zRI r ad) {σ : zS} {h : zHp} (hf : zRf r ad σ h0 h) {g : Nat → Int} (hg : σ.2 1 = g) (w : Int) (p : Int) (f : Int) (t : Int) (w1 : 0 ≤ g 0) (w2 : g 0 ≤ 80) (hw1 : 3 ≤ w) (hw2 : w ≤ 4) (hp1 : p = 15 ∨ p = 25) (hn1 : 0 ≤ g w.toNat) (hn2 : g w.toNat ≤ 10) (hf1 : 1 ≤ f) (hf2 : f ≤ t) (hf3 : t ≤ g 0) : zC G yX3_takesOff cX3_takesOff 7 none 3 64 0 0 [zp r, zi w, zi p, zi f, zi t] h (zPv (fun h' => zRf r ad (zuA σ 1 (gtof g g (w : Int).toNat (p : Int).toNat f t)) h0 h') zNo) := by
  refine zC.of zpn_X3 (Nat.le_of_ble_eq_true rfl) (L := [(0, zp r), (1, zi w), (2, zi p), (3, zi f), (4, zi t)]) rfl (fun K hO => ?_)
  refine zr_iconst hO dX3_takesOff_0 ?_
  refine zr_istore hO (L' := [(5, zi 0), (0, zp r), (1, zi w), (2, zi p), (3, zi f), (4, zi t)]) dX3_takesOff_1 (Nat.le_of_ble_eq_true rfl) rfl ?_
  refine zr_iconst hO dX3_takesOff_3 ?_
  refine zr_istore hO (L' := [(6, zi 0), (5, zi 0), (0, zp r), (1, zi w), (2, zi p), (3, zi f), (4, zi t)]) dX3_takesOff_4 (Nat.le_of_ble_eq_true rfl) rfl ?_
  have hl6 : ∀ (n9 : Nat) (c y : Int), (g w.toNat - y).toNat = n9 → ∀ (i1 : 0 ≤ y) (i2 : y ≤ g w.toNat) (i3 : c = ((gkp g g p f t y.toNat).length : Int)) (h : zHp) (hf : zRf r ad (zuA σ 1 (gpt p.toNat (gkp g g p f t y.toNat) g)) h0 h), zV G K 0 0 h 6 [(0, zp r), (1, zi w), (2, zi p), (3, zi f), (4, zi t), (5, zi c), (6, zi y)] [] := by
    intro n9
    induction n9 using Nat.strongRecOn with
    | _ n9 ih6 =>
    intro c y hn6 i1 i2 i3 h hf
    have hkl := gkp_len g g p f t y.toNat
    have hln : zln g (gpt p.toNat (gkp g g p f t y.toNat) g) := (zln.refl g).pt (by omega) (by omega)
    have hnu := hln.nu
    have hgn := fun k => gnu_in g k
    refine zr_iload hO (hl := rfl) (j := 6) dX3_takesOff_6 ?_
    refine zr_aload_n hO (hl := rfl) (j := 0) (hi := rfl) dX3_takesOff_8 ?_
    refine zs_arr hO hf 1 dX3_takesOff_9 q2971 (Nat.le_of_ble_eq_true rfl) rfl ?_
    refine zr_iload_n hO (hl := rfl) (j := 1) (hi := rfl) dX3_takesOff_12 ?_
    refine zs_ild hO hf 1 (f := gpt p.toNat (gkp g g p f t y.toNat) g) (n := 2195) (j := w.toNat) dX3_takesOff_13 rfl rfl rfl rfl (by omega) (by omega) rfl (fun ⟨r1a, r1b⟩ => ?_)
    rw [show ((gpt p.toNat (gkp g g p f t y.toNat) g) w.toNat) = g w.toNat from (gpt_out (by omega))]
    refine zr_icmp_ge hO ⟨by omega, by omega⟩ ⟨by omega, by omega⟩ (tgt := 69) dX3_takesOff_14 rfl (fun c14 => ?_) (fun c14 => ?_)
    · skip
      refine zr_aload_n hO (hl := rfl) (j := 0) (hi := rfl) dX3_takesOff_69 ?_
      refine zs_arr hO hf 1 dX3_takesOff_70 q2971 (Nat.le_of_ble_eq_true rfl) rfl ?_
      refine zr_iload_n hO (hl := rfl) (j := 1) (hi := rfl) dX3_takesOff_73 ?_
      refine zr_iload hO (hl := rfl) (j := 5) dX3_takesOff_74 ?_
      refine zs_ist hO hI hf 1 (f := gpt p.toNat (gkp g g p f t y.toNat) g) (n := 2195) (j := w.toNat) dX3_takesOff_76 rfl rfl rfl rfl (by omega) (by omega) rfl ⟨by omega, by omega⟩ (fun h hf => ?_)
      exact zr_return hO dX3_takesOff_77 (zRf_eq (by unfold gtof; rw [zuA_uA, show (g w.toNat).toNat = y.toNat by omega, show ((p.toNat : Nat) : Int) = p by omega, i3]) hf)
    · skip
      refine zr_aload_n hO (hl := rfl) (j := 0) (hi := rfl) dX3_takesOff_17 ?_
      refine zr_aload_n hO (hl := rfl) (j := 0) (hi := rfl) dX3_takesOff_18 ?_
      refine zs_arr hO hf 1 dX3_takesOff_19 q2971 (Nat.le_of_ble_eq_true rfl) rfl ?_
      refine zr_iload_n hO (hl := rfl) (j := 2) (hi := rfl) dX3_takesOff_22 ?_
      refine zr_iload hO (hl := rfl) (j := 6) dX3_takesOff_23 ?_
      refine zr_iadd hO dX3_takesOff_25 ?_
      refine zs_ild hO hf 1 (f := gpt p.toNat (gkp g g p f t y.toNat) g) (n := 2195) (j := (p + y).toNat) dX3_takesOff_26 rfl rfl rfl rfl (by omega) (by omega) rfl (fun ⟨r2a, r2b⟩ => ?_)
      have hgy : gpt p.toNat (gkp g g p f t y.toNat) g (p + y).toNat = g (p + y).toNat := gpt_out (by omega)
      have hln0 := hln.1
      rw [show ((gpt p.toNat (gkp g g p f t y.toNat) g) ((p + y).toNat)) = g (p + y).toNat from hgy]
      refine zr_cVi hO zc_X3 zw_X3_192 (c_X3_numberOf hI hf (zuA_at σ 1 (gpt p.toNat (gkp g g p f t y.toNat) g)) (g (p + y).toNat) (⟨by omega, by omega⟩) (by omega) (by omega)) dX3_takesOff_27 (zrd_of hf.1) rfl (rest := []) rfl ⟨Nat.le_of_ble_eq_true rfl, Nat.le_of_ble_eq_true rfl⟩ (Nat.le_of_ble_eq_true rfl) (Nat.le_refl _) (Nat.le_refl _) (fun x h hx => ?_)
      obtain ⟨hx, hf⟩ := hx
      have hx : x = gnu (gpt p.toNat (gkp g g p f t y.toNat) g) (g (p + y).toNat) := hx
      subst hx
      have hgn1 := hgn (g (p + y).toNat)
      rw [show (gnu (gpt p.toNat (gkp g g p f t y.toNat) g) (g (p + y).toNat)) = gnu g (g (p + y).toNat) from (hnu _)]
      refine zr_iload_n hO (hl := rfl) (j := 3) (hi := rfl) dX3_takesOff_30 ?_
      refine zr_iload hO (hl := rfl) (j := 4) dX3_takesOff_31 ?_
      refine zr_cSi hO zw_X3_95 (c_X3_in (gnu g (g (p + y).toNat)) f t (⟨by omega, by omega⟩) (⟨by omega, by omega⟩) (⟨by omega, by omega⟩)) dX3_takesOff_33 rfl (rest := []) rfl ⟨Nat.le_of_ble_eq_true rfl, Nat.le_of_ble_eq_true rfl⟩ (Nat.le_of_ble_eq_true rfl) (Nat.le_refl _) (Nat.le_refl _) (fun x h hx => ?_)
      obtain ⟨hx, rfl⟩ := hx
      have hx : x = zB (f ≤ (gnu g (g (p + y).toNat)) ∧ (gnu g (g (p + y).toNat)) ≤ t) := hx
      subst hx
      refine zr_if_eq hO (zR_B _) (tgt := 42) dX3_takesOff_36 rfl (fun c36 => ?_) (fun c36 => ?_)
      · skip
        have c36 := zB_eq c36
        refine zr_aload_n hO (hl := rfl) (j := 0) (hi := rfl) dX3_takesOff_42 ?_
        refine zs_arr hO hf 1 dX3_takesOff_43 q2971 (Nat.le_of_ble_eq_true rfl) rfl ?_
        refine zr_iload_n hO (hl := rfl) (j := 2) (hi := rfl) dX3_takesOff_46 ?_
        refine zr_iload hO (hl := rfl) (j := 5) dX3_takesOff_47 ?_
        refine zr_iadd hO dX3_takesOff_49 ?_
        refine zr_aload_n hO (hl := rfl) (j := 0) (hi := rfl) dX3_takesOff_50 ?_
        refine zs_arr hO hf 1 dX3_takesOff_51 q2971 (Nat.le_of_ble_eq_true rfl) rfl ?_
        refine zr_iload_n hO (hl := rfl) (j := 2) (hi := rfl) dX3_takesOff_54 ?_
        refine zr_iload hO (hl := rfl) (j := 6) dX3_takesOff_55 ?_
        refine zr_iadd hO dX3_takesOff_57 ?_
        refine zs_ild hO hf 1 (f := gpt p.toNat (gkp g g p f t y.toNat) g) (n := 2195) (j := (p + y).toNat) dX3_takesOff_58 rfl rfl rfl rfl (by omega) (by omega) rfl (fun ⟨r4a, r4b⟩ => ?_)
        rw [show ((gpt p.toNat (gkp g g p f t y.toNat) g) ((p + y).toNat)) = g (p + y).toNat from hgy]
        refine zs_ist hO hI hf 1 (f := gpt p.toNat (gkp g g p f t y.toNat) g) (n := 2195) (j := (p.toNat + (gkp g g p f t y.toNat).length)) dX3_takesOff_59 rfl rfl rfl rfl (by omega) (by omega) (by omega) ⟨by omega, by omega⟩ (fun h hf => ?_)
        refine zr_iinc hO (L' := [(5, zi (c + 1)), (0, zp r), (1, zi w), (2, zi p), (3, zi f), (4, zi t), (6, zi y)]) (j := 5) dX3_takesOff_60 rfl (Nat.le_of_ble_eq_true rfl) rfl ?_
        refine zr_iinc hO (L' := [(6, zi (y + 1)), (5, zi (c + 1)), (0, zp r), (1, zi w), (2, zi p), (3, zi f), (4, zi t)]) (j := 6) dX3_takesOff_63 rfl (Nat.le_of_ble_eq_true rfl) rfl ?_
        refine zr_goto hO (tgt := 6) dX3_takesOff_66 rfl ?_
        refine zV.loc [2, 3, 4, 5, 6, 1, 0] rfl ?_
        exact ih6 _ (by omega) (c + 1) (y + 1) rfl (by omega) (by omega) (by rw [show (y + 1).toNat = y.toNat + 1 by omega, gkp, show p + (y.toNat : Int) = p + y by omega, if_neg (by omega), List.length_append, i3]; rfl) h (zRf_eq (by rw [zuA_uA, gpt_s, show (y + 1).toNat = y.toNat + 1 by omega, gkp, show p + (y.toNat : Int) = p + y by omega, if_neg (by omega)]) hf)
      · skip
        have c36 := zB_ne c36
        refine zr_goto hO (tgt := 63) dX3_takesOff_39 rfl ?_
        refine zr_iinc hO (L' := [(6, zi (y + 1)), (0, zp r), (1, zi w), (2, zi p), (3, zi f), (4, zi t), (5, zi c)]) (j := 6) dX3_takesOff_63 rfl (Nat.le_of_ble_eq_true rfl) rfl ?_
        refine zr_goto hO (tgt := 6) dX3_takesOff_66 rfl ?_
        refine zV.loc [1, 2, 3, 4, 5, 6, 0] rfl ?_
        exact ih6 _ (by omega) c (y + 1) rfl (by omega) (by omega) (by rw [show (y + 1).toNat = y.toNat + 1 by omega, gkp, show p + (y.toNat : Int) = p + y by omega, if_pos (by omega), i3]) h (zRf_eq (by rw [show (y + 1).toNat = y.toNat + 1 by omega, gkp, show p + (y.toNat : Int) = p + y by omega, if_pos (by omega)]) hf)
  refine zV.loc [2, 3, 4, 5, 6, 1, 0] rfl ?_
  exact hl6 _ 0 0 rfl (by omega) (by omega) (rfl) h (zRf_eq (by rw [show (0 : Int).toNat = 0 from rfl, gkp, gpt_nil, zuA_id' 1 hg]) hf)
theorem zw_X3_309 : zYw RX3 RX3 309 yX3_goesFrom cX3_goesFrom 4 (some Jvm.ClassFile.FieldType.int) 3 := ⟨q3480, q3482, qs97, q116, q3483, rfl, ⟨by decide +kernel, by decide +kernel, by decide +kernel⟩⟩
theorem zw_X3_313 : zYw RX3 RX3 313 yX3_takesOff cX3_takesOff 7 none 4 := ⟨q3484, q3486, qs98, q116, q3487, rfl, ⟨by decide +kernel, by decide +kernel, by decide +kernel⟩⟩
theorem c_X3_takesOut {G : zG} {r : Nat} {ad : Nat → Nat} {h0 : zHp} (hI : zRI r ad) {σ : zS} {h : zHp} (hf : zRf r ad σ h0 h) {g : Nat → Int} (hg : σ.2 1 = g) (f : Int) (t : Int) (w1 : 0 ≤ g 0) (w2 : g 0 ≤ 80) (hf1 : 1 ≤ f) (hf2 : f ≤ t) (hf3 : t ≤ g 0) (hj1 : 0 ≤ g 3) (hj2 : g 3 ≤ 10) (hj3 : 0 ≤ g 4) (hj4 : g 4 ≤ 10) : zC G yX3_takesOut cX3_takesOut 5 none 4 90 0 0 [zp r, zi f, zi t] h (zPv (fun h' => zRf r ad (zuA σ 1 (gtak g f t)) h0 h') zNo) := by
  refine zC.of zpn_X3 (Nat.le_of_ble_eq_true rfl) (L := [(0, zp r), (1, zi f), (2, zi t)]) rfl (fun K hO => ?_)
  refine zr_iconst hO dX3_takesOut_0 ?_
  refine zr_istore_n hO (L' := [(3, zi 0), (0, zp r), (1, zi f), (2, zi t)]) (hi := rfl) dX3_takesOut_1 (Nat.le_of_ble_eq_true rfl) rfl ?_
  have hl2 : ∀ (n9 : Nat) (i : Int), (10 - i).toNat = n9 → ∀ (i1 : 0 ≤ i) (i2 : i ≤ 10) (h : zHp) (hf : zRf r ad (zuA σ 1 (gtk1 g f t i)) h0 h), zV G K 0 0 h 2 [(0, zp r), (1, zi f), (2, zi t), (3, zi i)] [] := by
    intro n9
    induction n9 using Nat.strongRecOn with
    | _ n9 ih2 =>
    intro i hn2 i1 i2 h hf
    have hln := zln.tk1 g f t i2
    refine zr_iload_n hO (hl := rfl) (j := 3) (hi := rfl) dX3_takesOut_2 ?_
    refine zr_bipush hO (by decide) dX3_takesOut_3 ?_
    refine zr_icmp_ge hO ⟨by omega, by omega⟩ ⟨by omega, by omega⟩ (tgt := 36) dX3_takesOut_5 rfl (fun c5 => ?_) (fun c5 => ?_)
    · skip
      have hf : zRf r ad (zuA σ 1 (gtk1 g f t 10)) h0 h := zRf_eq (by rw [show i = 10 by omega]) hf
      have hln := zln.tk1 g f t (Int.le_refl 10)
      refine zr_aload_n hO (hl := rfl) (j := 0) (hi := rfl) dX3_takesOut_36 ?_
      refine zs_arr hO hf 1 dX3_takesOut_37 q2971 (Nat.le_of_ble_eq_true rfl) rfl ?_
      refine zr_iconst hO dX3_takesOut_40 ?_
      refine zr_aload_n hO (hl := rfl) (j := 0) (hi := rfl) dX3_takesOut_41 ?_
      refine zr_aload_n hO (hl := rfl) (j := 0) (hi := rfl) dX3_takesOut_42 ?_
      refine zs_arr hO hf 1 dX3_takesOut_43 q2971 (Nat.le_of_ble_eq_true rfl) rfl ?_
      refine zr_iconst hO dX3_takesOut_46 ?_
      refine zs_ild hO hf 1 (f := gtk1 g f t 10) (n := 2195) (j := 2) dX3_takesOut_47 rfl rfl rfl rfl (by omega) (by omega) rfl (fun ⟨r1a, r1b⟩ => ?_)
      have hg2 : gtk1 g f t 10 2 = g 2 := if_neg (by omega)
      rw [show ((gtk1 g f t 10) 2) = g 2 from hg2]
      refine zr_iload_n hO (hl := rfl) (j := 1) (hi := rfl) dX3_takesOut_48 ?_
      refine zr_iload_n hO (hl := rfl) (j := 2) (hi := rfl) dX3_takesOut_49 ?_
      refine zr_cVi hO zc_X3 zw_X3_309 (c_X3_goesFrom hI hf (zuA_at σ 1 (gtk1 g f t 10)) (g 2) f t (by rw [hln.1]; exact w1) (by rw [hln.1]; exact w2) (⟨by omega, by omega⟩) (by omega) (by omega) (by rw [hln.1]; exact hf3)) dX3_takesOut_50 (zrd_of hf.1) rfl (rest := [zi 2, zp (ad 1)]) rfl ⟨Nat.le_of_ble_eq_true rfl, Nat.le_of_ble_eq_true rfl⟩ (Nat.le_of_ble_eq_true rfl) (Nat.le_refl _) (Nat.le_refl _) (fun x h hx => ?_)
      obtain ⟨hx, ⟨r2a, r2b⟩, hf⟩ := hx
      have hx : x = ggf (gtk1 g f t 10) (g 2) f t := hx
      subst hx
      have hge := hln.gf (g 2) hf1 hf2
      rw [show (ggf (gtk1 g f t 10) (g 2) f t) = ggf g (g 2) f t from (hln.gf _ hf1 hf2)]
      refine zs_ist hO hI hf 1 (f := gtk1 g f t 10) (n := 2195) (j := 2) dX3_takesOut_53 rfl rfl rfl rfl (by omega) (by omega) rfl ⟨by omega, by omega⟩ (fun h hf => ?_)
      have hf : zRf r ad (zuA σ 1 (gto0 g f t)) h0 h := zRf_eq (by rw [zuA_uA]; rfl) hf
      have h0l := gto0_ln g f t
      have h03 := gto0_3 g f t
      refine zr_aload_n hO (hl := rfl) (j := 0) (hi := rfl) dX3_takesOut_54 ?_
      refine zr_iconst hO dX3_takesOut_55 ?_
      refine zr_bipush hO (by decide) dX3_takesOut_56 ?_
      refine zr_iload_n hO (hl := rfl) (j := 1) (hi := rfl) dX3_takesOut_58 ?_
      refine zr_iload_n hO (hl := rfl) (j := 2) (hi := rfl) dX3_takesOut_59 ?_
      refine zr_cVv hO zc_X3 zw_X3_313 (c_X3_takesOff hI hf (zuA_at σ 1 (gto0 g f t)) 3 15 f t (by rw [h0l.1]; exact w1) (by rw [h0l.1]; exact w2) (by omega) (by omega) (by omega) (by show 0 ≤ gto0 g f t 3; omega) (by show gto0 g f t 3 ≤ 10; omega) (by omega) (by omega) (by rw [h0l.1]; exact hf3)) dX3_takesOut_60 (zrd_of hf.1) rfl (rest := []) rfl ⟨Nat.le_of_ble_eq_true rfl, Nat.le_of_ble_eq_true rfl⟩ (Nat.le_of_ble_eq_true rfl) (Nat.le_refl _) (Nat.le_refl _) (fun h hx => ?_)
      have hf : zRf r ad (zuA (zuA σ 1 (gto0 g f t)) 1 (gtof (gto0 g f t) (gto0 g f t) (3 : Int).toNat (15 : Int).toNat f t)) h0 h := hx
      clear hx
      have hf : zRf r ad (zuA σ 1 (gtoA g f t)) h0 h := zRf_eq (by rw [zuA_uA, show (3 : Int).toNat = 3 from rfl, show (15 : Int).toNat = 15 from rfl]; rfl) hf
      have hAl := gtoA_ln g f t hj1 hj2
      have hA4 := gtoA_4 g f t hj1 hj2
      refine zr_aload_n hO (hl := rfl) (j := 0) (hi := rfl) dX3_takesOut_63 ?_
      refine zr_iconst hO dX3_takesOut_64 ?_
      refine zr_bipush hO (by decide) dX3_takesOut_65 ?_
      refine zr_iload_n hO (hl := rfl) (j := 1) (hi := rfl) dX3_takesOut_67 ?_
      refine zr_iload_n hO (hl := rfl) (j := 2) (hi := rfl) dX3_takesOut_68 ?_
      refine zr_cVv hO zc_X3 zw_X3_313 (c_X3_takesOff hI hf (zuA_at σ 1 (gtoA g f t)) 4 25 f t (by rw [hAl.1]; exact w1) (by rw [hAl.1]; exact w2) (by omega) (by omega) (by omega) (by show 0 ≤ gtoA g f t 4; omega) (by show gtoA g f t 4 ≤ 10; omega) (by omega) (by omega) (by rw [hAl.1]; exact hf3)) dX3_takesOut_69 (zrd_of hf.1) rfl (rest := []) rfl ⟨Nat.le_of_ble_eq_true rfl, Nat.le_of_ble_eq_true rfl⟩ (Nat.le_of_ble_eq_true rfl) (Nat.le_refl _) (Nat.le_refl _) (fun h hx => ?_)
      have hf : zRf r ad (zuA (zuA σ 1 (gtoA g f t)) 1 (gtof (gtoA g f t) (gtoA g f t) (4 : Int).toNat (25 : Int).toNat f t)) h0 h := hx
      clear hx
      have hf : zRf r ad (zuA σ 1 (gto1 g f t)) h0 h := zRf_eq (by rw [zuA_uA, show (4 : Int).toNat = 4 from rfl, show (25 : Int).toNat = 25 from rfl]; rfl) hf
      have h1l := gto1_ln g f t hj1 hj2 hj3 hj4
      refine zr_iload_n hO (hl := rfl) (j := 2) (hi := rfl) dX3_takesOut_72 ?_
      refine zr_iload_n hO (hl := rfl) (j := 1) (hi := rfl) dX3_takesOut_73 ?_
      refine zr_isub hO dX3_takesOut_74 ?_
      refine zr_iconst hO dX3_takesOut_75 ?_
      refine zr_iadd hO dX3_takesOut_76 ?_
      refine zr_istore_n hO (L' := [(3, zi ((t - f) + 1)), (0, zp r), (1, zi f), (2, zi t)]) (hi := rfl) dX3_takesOut_77 (Nat.le_of_ble_eq_true rfl) rfl ?_
      refine zr_iload_n hO (hl := rfl) (j := 3) (hi := rfl) dX3_takesOut_78 ?_
      refine zr_iconst hO dX3_takesOut_79 ?_
      refine zr_iadd hO dX3_takesOut_80 ?_
      refine zr_cSi hO zw_X3_125 (c_X3_lineAt (t + 1)) dX3_takesOut_81 rfl (rest := []) rfl ⟨Nat.le_of_ble_eq_true rfl, Nat.le_of_ble_eq_true rfl⟩ (Nat.le_of_ble_eq_true rfl) (Nat.le_refl _) (Nat.le_refl _) (fun x h hx => ?_)
      obtain ⟨hx, rfl⟩ := hx
      have hx : x = 35 + 27 * ((t + 1) - 1) := hx
      subst hx
      refine zr_istore hO (L' := [(4, zi (35 + 27 * ((t + 1) - 1))), (3, zi ((t - f) + 1)), (0, zp r), (1, zi f), (2, zi t)]) dX3_takesOut_84 (Nat.le_of_ble_eq_true rfl) rfl ?_
      have hl86 : ∀ (n9 : Nat) (i : Int), (35 + 27 * g 0 - i).toNat = n9 → ∀ (i1 : 35 + 27 * t ≤ i) (i2 : i ≤ 35 + 27 * g 0) (h : zHp) (hf : zRf r ad (zuA σ 1 (gfw (gto1 g f t) (35 + 27 * t) (t - f + 1) i)) h0 h), zV G K 0 0 h 86 [(0, zp r), (1, zi f), (2, zi t), (3, zi (t - f + 1)), (4, zi i)] [] := by
        intro n9
        induction n9 using Nat.strongRecOn with
        | _ n9 ih86 =>
        intro i hn86 i1 i2 h hf
        refine zr_iload hO (hl := rfl) (j := 4) dX3_takesOut_86 ?_
        refine zr_aload_n hO (hl := rfl) (j := 0) (hi := rfl) dX3_takesOut_88 ?_
        refine zs_arr hO hf 1 dX3_takesOut_89 q2971 (Nat.le_of_ble_eq_true rfl) rfl ?_
        refine zr_iconst hO dX3_takesOut_92 ?_
        refine zs_ild hO hf 1 (f := gfw (gto1 g f t) (35 + 27 * t) (t - f + 1) i) (n := 2195) (j := 0) dX3_takesOut_93 rfl rfl rfl rfl (by omega) (by omega) rfl (fun ⟨r3a, r3b⟩ => ?_)
        have hg0 : gfw (gto1 g f t) (35 + 27 * t) (t - f + 1) i 0 = g 0 := (gfw_lo (by omega)).trans h1l.1
        rw [show ((gfw (gto1 g f t) (35 + 27 * t) (t - f + 1) i) 0) = g 0 from hg0]
        refine zr_iconst hO dX3_takesOut_94 ?_
        refine zr_iadd hO dX3_takesOut_95 ?_
        refine zr_cSi hO zw_X3_125 (c_X3_lineAt ((g 0) + 1)) dX3_takesOut_96 rfl (rest := [zi i]) rfl ⟨Nat.le_of_ble_eq_true rfl, Nat.le_of_ble_eq_true rfl⟩ (Nat.le_of_ble_eq_true rfl) (Nat.le_refl _) (Nat.le_refl _) (fun x h hx => ?_)
        obtain ⟨hx, rfl⟩ := hx
        have hx : x = 35 + 27 * (((g 0) + 1) - 1) := hx
        subst hx
        refine zr_icmp_ge hO ⟨by omega, by omega⟩ ⟨by omega, by omega⟩ (tgt := 127) dX3_takesOut_99 rfl (fun c99 => ?_) (fun c99 => ?_)
        · skip
          refine zr_aload_n hO (hl := rfl) (j := 0) (hi := rfl) dX3_takesOut_127 ?_
          refine zs_arr hO hf 1 dX3_takesOut_128 q2971 (Nat.le_of_ble_eq_true rfl) rfl ?_
          refine zr_iconst hO dX3_takesOut_131 ?_
          refine zr_dup2 hO rfl rfl dX3_takesOut_132 ?_
          refine zs_ild hO hf 1 (f := gfw (gto1 g f t) (35 + 27 * t) (t - f + 1) i) (n := 2195) (j := 0) dX3_takesOut_133 rfl rfl rfl rfl (by omega) (by omega) rfl (fun ⟨r4a, r4b⟩ => ?_)
          rw [show ((gfw (gto1 g f t) (35 + 27 * t) (t - f + 1) i) 0) = g 0 from hg0]
          refine zr_iload_n hO (hl := rfl) (j := 3) (hi := rfl) dX3_takesOut_134 ?_
          refine zr_isub hO dX3_takesOut_135 ?_
          refine zs_ist hO hI hf 1 (f := gfw (gto1 g f t) (35 + 27 * t) (t - f + 1) i) (n := 2195) (j := 0) dX3_takesOut_136 rfl rfl rfl rfl (by omega) (by omega) rfl ⟨by omega, by omega⟩ (fun h hf => ?_)
          exact zr_return hO dX3_takesOut_137 (zRf_eq (by unfold gtak; rw [zuA_uA, show i = 35 + 27 * g 0 by omega]) hf)
        · skip
          refine zr_aload_n hO (hl := rfl) (j := 0) (hi := rfl) dX3_takesOut_102 ?_
          refine zs_arr hO hf 1 dX3_takesOut_103 q2971 (Nat.le_of_ble_eq_true rfl) rfl ?_
          refine zr_iload hO (hl := rfl) (j := 4) dX3_takesOut_106 ?_
          refine zr_bipush hO (by decide) dX3_takesOut_108 ?_
          refine zr_iload_n hO (hl := rfl) (j := 3) (hi := rfl) dX3_takesOut_110 ?_
          refine zr_imul hO dX3_takesOut_111 ?_
          refine zr_isub hO dX3_takesOut_112 ?_
          refine zr_aload_n hO (hl := rfl) (j := 0) (hi := rfl) dX3_takesOut_113 ?_
          refine zs_arr hO hf 1 dX3_takesOut_114 q2971 (Nat.le_of_ble_eq_true rfl) rfl ?_
          refine zr_iload hO (hl := rfl) (j := 4) dX3_takesOut_117 ?_
          refine zs_ild hO hf 1 (f := gfw (gto1 g f t) (35 + 27 * t) (t - f + 1) i) (n := 2195) (j := i.toNat) dX3_takesOut_119 rfl rfl rfl rfl (by omega) (by omega) rfl (fun ⟨r5a, r5b⟩ => ?_)
          have hgq : gfw (gto1 g f t) (35 + 27 * t) (t - f + 1) i i.toNat = gto1 g f t i.toNat := gfw_hi (by omega)
          rw [show ((gfw (gto1 g f t) (35 + 27 * t) (t - f + 1) i) i.toNat) = gto1 g f t i.toNat from hgq]
          refine zs_ist hO hI hf 1 (f := gfw (gto1 g f t) (35 + 27 * t) (t - f + 1) i) (n := 2195) (j := (i - (27 * (t - f + 1))).toNat) dX3_takesOut_120 rfl rfl rfl rfl (by omega) (by omega) rfl ⟨by omega, by omega⟩ (fun h hf => ?_)
          refine zr_iinc hO (L' := [(4, zi (i + 1)), (0, zp r), (1, zi f), (2, zi t), (3, zi (t - f + 1))]) (j := 4) dX3_takesOut_121 rfl (Nat.le_of_ble_eq_true rfl) rfl ?_
          refine zr_goto hO (tgt := 86) dX3_takesOut_124 rfl ?_
          refine zV.loc [1, 2, 3, 4, 0] rfl ?_
          exact ih86 _ (by omega) (i + 1) rfl (by omega) (by omega) h (zRf_eq (by rw [zuA_uA, gfw_s (g := gto1 g f t) (p := 35 + 27 * t) (m := t - f + 1) (i := i) (by omega) (by omega) i1]) hf)
      refine zV.loc [2, 3, 4, 1, 0] rfl ?_
      exact hl86 _ (35 + 27 * ((t + 1) - 1)) rfl (by omega) (by omega) h (zRf_eq (by rw [show 35 + 27 * (t + 1 - 1) = 35 + 27 * t by omega, gfw_0]) hf)
    · skip
      refine zr_aload_n hO (hl := rfl) (j := 0) (hi := rfl) dX3_takesOut_8 ?_
      refine zs_arr hO hf 1 dX3_takesOut_9 q2971 (Nat.le_of_ble_eq_true rfl) rfl ?_
      refine zr_iconst hO dX3_takesOut_12 ?_
      refine zr_iload_n hO (hl := rfl) (j := 3) (hi := rfl) dX3_takesOut_13 ?_
      refine zr_iadd hO dX3_takesOut_14 ?_
      refine zr_aload_n hO (hl := rfl) (j := 0) (hi := rfl) dX3_takesOut_15 ?_
      refine zr_aload_n hO (hl := rfl) (j := 0) (hi := rfl) dX3_takesOut_16 ?_
      refine zs_arr hO hf 1 dX3_takesOut_17 q2971 (Nat.le_of_ble_eq_true rfl) rfl ?_
      refine zr_iconst hO dX3_takesOut_20 ?_
      refine zr_iload_n hO (hl := rfl) (j := 3) (hi := rfl) dX3_takesOut_21 ?_
      refine zr_iadd hO dX3_takesOut_22 ?_
      refine zs_ild hO hf 1 (f := gtk1 g f t i) (n := 2195) (j := (5 + i).toNat) dX3_takesOut_23 rfl rfl rfl rfl (by omega) (by omega) rfl (fun ⟨r6a, r6b⟩ => ?_)
      have hgi : gtk1 g f t i (5 + i).toNat = g (5 + i).toNat := if_neg (by omega)
      rw [show ((gtk1 g f t i) ((5 + i).toNat)) = g (5 + i).toNat from hgi]
      refine zr_iload_n hO (hl := rfl) (j := 1) (hi := rfl) dX3_takesOut_24 ?_
      refine zr_iload_n hO (hl := rfl) (j := 2) (hi := rfl) dX3_takesOut_25 ?_
      refine zr_cVi hO zc_X3 zw_X3_309 (c_X3_goesFrom hI hf (zuA_at σ 1 (gtk1 g f t i)) (g (5 + i).toNat) f t (by rw [hln.1]; exact w1) (by rw [hln.1]; exact w2) (⟨by omega, by omega⟩) (by omega) (by omega) (by rw [hln.1]; exact hf3)) dX3_takesOut_26 (zrd_of hf.1) rfl (rest := [zi (5 + i), zp (ad 1)]) rfl ⟨Nat.le_of_ble_eq_true rfl, Nat.le_of_ble_eq_true rfl⟩ (Nat.le_of_ble_eq_true rfl) (Nat.le_refl _) (Nat.le_refl _) (fun x h hx => ?_)
      obtain ⟨hx, ⟨r7a, r7b⟩, hf⟩ := hx
      have hx : x = ggf (gtk1 g f t i) (g (5 + i).toNat) f t := hx
      subst hx
      have hge := hln.gf (g (5 + i).toNat) hf1 hf2
      rw [show (ggf (gtk1 g f t i) (g (5 + i).toNat) f t) = ggf g (g (5 + i).toNat) f t from (hln.gf _ hf1 hf2)]
      refine zs_ist hO hI hf 1 (f := gtk1 g f t i) (n := 2195) (j := (5 + i).toNat) dX3_takesOut_29 rfl rfl rfl rfl (by omega) (by omega) rfl ⟨by omega, by omega⟩ (fun h hf => ?_)
      refine zr_iinc hO (L' := [(3, zi (i + 1)), (0, zp r), (1, zi f), (2, zi t)]) (j := 3) dX3_takesOut_30 rfl (Nat.le_of_ble_eq_true rfl) rfl ?_
      refine zr_goto hO (tgt := 2) dX3_takesOut_33 rfl ?_
      refine zV.loc [1, 2, 3, 0] rfl ?_
      exact ih2 _ (by omega) (i + 1) rfl (by omega) (by omega) h (zRf_eq (by rw [zuA_uA, gtk1_s g f t i1]) hf)
  refine zV.loc [1, 2, 3, 0] rfl ?_
  exact hl2 _ 0 rfl (by omega) (by omega) h (zRf_eq (by rw [gtk1_0, zuA_id' 1 hg]) hf)
