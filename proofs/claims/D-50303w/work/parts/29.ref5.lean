/-! THE REFERENCE: queries (printed by gen/refs.py) -/
theorem zw_X3_195 : zYw RX3 RX3 195 yX3_shownMany cX3_shownMany 3 (some Jvm.ClassFile.FieldType.int) 0 := ⟨q3201, q3203, qs66, q116, q3204, rfl, ⟨by decide +kernel, by decide +kernel, by decide +kernel⟩⟩
theorem zw_X3_198 : zYw RX3 RX3 198 yX3_lineIn cX3_lineIn 3 (some Jvm.ClassFile.FieldType.int) 1 := ⟨q3205, q3207, qs67, q116, q3208, rfl, ⟨by decide +kernel, by decide +kernel, by decide +kernel⟩⟩
theorem c_X3_lineOfRow {G : zG} {r : Nat} {ad : Nat → Nat} {h0 : zHp} (hI : zRI r ad) {σ : zS} {h : zHp} (hf : zRf r ad σ h0 h) {g : Nat → Int} (hg : σ.2 1 = g) (m : Int) (hm : zR m) (hw : zwf g) : zC G yX3_lineOfRow cX3_lineOfRow 2 (some Jvm.ClassFile.FieldType.int) 7 157 0 0 [zp r, zi m] h (zPi (fun x h' => x = (if 1 ≤ m ∧ m ≤ grow g (gcl g) (g 0) then gli g (gcl g) m else 0) ∧ ∃ τ : zS, τ.1 0 = (1 - zB (1 ≤ m ∧ m ≤ grow g (gcl g) (g 0))) ∧ zCo σ τ ∧ zRf r ad τ h0 h') zNo) := by
  refine zC.of zpn_X3 (Nat.le_of_ble_eq_true rfl) (L := [(0, zp r), (1, zi m)]) rfl (fun K hO => ?_)
  obtain ⟨w1, w2, w3⟩ := id hw
  obtain ⟨hma, hmb⟩ := hm
  have hgi := grow_in g (gcl g) (N := g 0) (by omega)
  refine zr_aload_n hO (hl := rfl) (j := 0) (hi := rfl) dX3_lineOfRow_0 ?_
  refine zr_cVv hO zc_X3 zw_X3_174 (c_X3_layAll hI hf hg  (hw)) dX3_lineOfRow_1 (zrd_of hf.1) rfl (rest := []) rfl ⟨Nat.le_of_ble_eq_true rfl, Nat.le_of_ble_eq_true rfl⟩ (Nat.le_of_ble_eq_true rfl) (Nat.le_refl _) (Nat.le_refl _) (fun h hx => ?_)
  obtain ⟨τ1, hs1, hd1, hf⟩ := hx
  refine zr_aload_n hO (hl := rfl) (j := 0) (hi := rfl) dX3_lineOfRow_4 ?_
  refine zr_iload_n hO (hl := rfl) (j := 1) (hi := rfl) dX3_lineOfRow_5 ?_
  refine zr_iconst hO dX3_lineOfRow_6 ?_
  refine zr_aload_n hO (hl := rfl) (j := 0) (hi := rfl) dX3_lineOfRow_7 ?_
  refine zr_cVi hO zc_X3 zw_X3_195 (c_X3_shownMany hI hf ((hs1.2 1 rfl).trans hg) (rfl : τ1.2 21 = (τ1.2 21))  (by omega) (by omega)) dX3_lineOfRow_8 (zrd_of hf.1) rfl (rest := [zi 1, zi m, zp r]) rfl ⟨Nat.le_of_ble_eq_true rfl, Nat.le_of_ble_eq_true rfl⟩ (Nat.le_of_ble_eq_true rfl) (Nat.le_refl _) (Nat.le_refl _) (fun x h hx => ?_)
  obtain ⟨hx, hf⟩ := hx
  have hx : x = gshn ((τ1.2 21)) (g 0) := hx
  subst hx
  rw [show (gshn ((τ1.2 21)) (g 0)) = grow g (gcl g) (g 0) from gshn_of hd1.2.2 (by omega)]
  refine zr_cSi hO zw_X3_95 (c_X3_in m 1 (grow g (gcl g) (g 0)) (⟨by omega, by omega⟩) (⟨by omega, by omega⟩) (⟨by omega, by omega⟩)) dX3_lineOfRow_11 rfl (rest := [zp r]) rfl ⟨Nat.le_of_ble_eq_true rfl, Nat.le_of_ble_eq_true rfl⟩ (Nat.le_of_ble_eq_true rfl) (Nat.le_refl _) (Nat.le_refl _) (fun x h hx => ?_)
  obtain ⟨hx, rfl⟩ := hx
  have hx : x = zB (1 ≤ m ∧ m ≤ (grow g (gcl g) (g 0))) := hx
  subst hx
  refine zr_cVi hO zc_X3 zw_X3_111 (c_X3_may hI hf (zB (1 ≤ m ∧ m ≤ (grow g (gcl g) (g 0)))) (zB_01 _)) dX3_lineOfRow_14 (zrd_of hf.1) rfl (rest := []) rfl ⟨Nat.le_of_ble_eq_true rfl, Nat.le_of_ble_eq_true rfl⟩ (Nat.le_of_ble_eq_true rfl) (Nat.le_refl _) (Nat.le_refl _) (fun x h hx => ?_)
  obtain ⟨hx, hf⟩ := hx
  have hx : x = (zB (1 ≤ m ∧ m ≤ (grow g (gcl g) (g 0)))) := hx
  subst hx
  have hf : zRf r ad (zuS τ1 0 (1 - (zB (1 ≤ m ∧ m ≤ (grow g (gcl g) (g 0)))))) h0 h := hf
  refine zr_if_eq hO (zR_B _) (tgt := 28) dX3_lineOfRow_17 rfl (fun c17 => ?_) (fun c17 => ?_)
  · skip
    have c17 := zB_eq c17
    refine zr_iconst hO dX3_lineOfRow_28 ?_
    exact zr_ireturn hO dX3_lineOfRow_29 ⟨(by rw [if_neg c17]), (zuS τ1 0 (1 - (zB (1 ≤ m ∧ m ≤ (grow g (gcl g) (g 0)))))), (rfl), (((zCo.refl σ).tr hs1).uS (k := 0) (by decide) (1 - (zB (1 ≤ m ∧ m ≤ (grow g (gcl g) (g 0)))))), hf⟩
  · skip
    have c17 := zB_ne c17
    refine zr_aload_n hO (hl := rfl) (j := 0) (hi := rfl) dX3_lineOfRow_20 ?_
    refine zr_iload_n hO (hl := rfl) (j := 1) (hi := rfl) dX3_lineOfRow_21 ?_
    refine zr_cVi hO zc_X3 zw_X3_198 (c_X3_lineIn hI hf ((hs1.2 1 rfl).trans hg) m (by omega) (by omega) (hd1.2.2) (hw)) dX3_lineOfRow_22 (zrd_of hf.1) rfl (rest := []) rfl ⟨Nat.le_of_ble_eq_true rfl, Nat.le_of_ble_eq_true rfl⟩ (Nat.le_of_ble_eq_true rfl) (Nat.le_refl _) (Nat.le_refl _) (fun x h hx => ?_)
    obtain ⟨hx, hf⟩ := hx
    have hx : x = gli g (gcl g) m := hx
    subst hx
    refine zr_goto hO (tgt := 29) dX3_lineOfRow_25 rfl ?_
    exact zr_ireturn hO dX3_lineOfRow_29 ⟨(by rw [if_pos c17]), (zuS τ1 0 (1 - (zB (1 ≤ m ∧ m ≤ (grow g (gcl g) (g 0)))))), (rfl), (((zCo.refl σ).tr hs1).uS (k := 0) (by decide) (1 - (zB (1 ≤ m ∧ m ≤ (grow g (gcl g) (g 0)))))), hf⟩
theorem c_X3_widest {G : zG} {r : Nat} {ad : Nat → Nat} {h0 : zHp} (hI : zRI r ad) {σ : zS} {h : zHp} (hf : zRf r ad σ h0 h) {g : Nat → Int} (hg : σ.2 1 = g) (hw : zwf g) : zC G yX3_widest cX3_widest 3 (some Jvm.ClassFile.FieldType.int) 7 157 0 0 [zp r] h (zPi (fun x h' => x = (gwid g) ∧ ∃ τ : zS, τ.1 0 = 0 ∧ zCo σ τ ∧ zRf r ad τ h0 h') zNo) := by
  refine zC.of zpn_X3 (Nat.le_of_ble_eq_true rfl) (L := [(0, zp r)]) rfl (fun K hO => ?_)
  obtain ⟨w1, w2, w3⟩ := id hw
  refine zr_aload_n hO (hl := rfl) (j := 0) (hi := rfl) dX3_widest_0 ?_
  refine zr_iconst hO dX3_widest_1 ?_
  refine zs_put hO hI hf 0 dX3_widest_2 q2970 (Nat.le_of_ble_eq_true rfl) rfl rfl rfl ⟨by omega, by omega⟩ (fun h hf => ?_)
  refine zr_aload_n hO (hl := rfl) (j := 0) (hi := rfl) dX3_widest_5 ?_
  refine zr_cVv hO zc_X3 zw_X3_174 (c_X3_layAll hI hf hg  (hw)) dX3_widest_6 (zrd_of hf.1) rfl (rest := []) rfl ⟨Nat.le_of_ble_eq_true rfl, Nat.le_of_ble_eq_true rfl⟩ (Nat.le_of_ble_eq_true rfl) (Nat.le_refl _) (Nat.le_refl _) (fun h hx => ?_)
  obtain ⟨τ1, hs1, hd1, hf⟩ := hx
  refine zr_iconst hO dX3_widest_9 ?_
  refine zr_istore_n hO (L' := [(1, zi 0), (0, zp r)]) (hi := rfl) dX3_widest_10 (Nat.le_of_ble_eq_true rfl) rfl ?_
  refine zr_iconst hO dX3_widest_11 ?_
  refine zr_istore_n hO (L' := [(2, zi 1), (1, zi 0), (0, zp r)]) (hi := rfl) dX3_widest_12 (Nat.le_of_ble_eq_true rfl) rfl ?_
  have hl13 : ∀ (n9 : Nat) (n b : Int), (g 0 + 1 - n).toNat = n9 → ∀ (i1 : 1 ≤ n) (i2 : n ≤ g 0 + 1) (i3 : b = zfo (gwidF g) 0 (n - 1).toNat) (i4 : 0 ≤ b ∧ b < n) (h : zHp) (hf : zRf r ad τ1 h0 h), zV G K 0 0 h 13 [(0, zp r), (1, zi b), (2, zi n)] [] := by
    intro n9
    induction n9 using Nat.strongRecOn with
    | _ n9 ih13 =>
    intro n b hn13 i1 i2 i3 i4 h hf
    refine zr_iload_n hO (hl := rfl) (j := 2) (hi := rfl) dX3_widest_13 ?_
    refine zr_aload_n hO (hl := rfl) (j := 0) (hi := rfl) dX3_widest_14 ?_
    refine zs_arr hO hf 1 dX3_widest_15 q2971 (Nat.le_of_ble_eq_true rfl) rfl ?_
    refine zr_iconst hO dX3_widest_18 ?_
    refine zs_ild hO hf 1 (f := g) (n := 2195) (j := 0) dX3_widest_19 rfl rfl rfl ((hs1.2 1 rfl).trans hg) (by omega) (by omega) rfl (fun ⟨r1a, r1b⟩ => ?_)
    refine zr_icmp_gt hO ⟨by omega, by omega⟩ ⟨by omega, by omega⟩ (tgt := 57) dX3_widest_20 rfl (fun c20 => ?_) (fun c20 => ?_)
    · skip
      refine zr_iload_n hO (hl := rfl) (j := 1) (hi := rfl) dX3_widest_57 ?_
      exact zr_ireturn hO dX3_widest_58 ⟨(by rw [i3, show n - 1 = g 0 by omega]; rfl), τ1, (((hs1.1 0 (by decide) (by decide)).trans rfl)), (((zCo.refl σ).uS (k := 0) (by decide) 0).tr hs1), hf⟩
    · skip
      refine zr_aload_n hO (hl := rfl) (j := 0) (hi := rfl) dX3_widest_23 ?_
      refine zs_arr hO hf 21 dX3_widest_24 q2991 (Nat.le_of_ble_eq_true rfl) rfl ?_
      refine zr_iload_n hO (hl := rfl) (j := 2) (hi := rfl) dX3_widest_27 ?_
      refine zs_zld hO hf 21 (f := τ1.2 21) (n := 82) (j := n.toNat) dX3_widest_28 rfl rfl rfl rfl (by omega) (by omega) rfl (fun r2 => ?_)
      have hH01 := ghH_01 g (gcl g) n.toNat
      rw [show ((τ1.2 21) n.toNat) = ghH g (gcl g) n.toNat from (zHd_at hd1.2.2 (by omega) (by omega)).2]
      refine zr_if_ne hO ⟨by omega, by omega⟩ (tgt := 51) dX3_widest_29 rfl (fun c29 => ?_) (fun c29 => ?_)
      · skip
        refine zr_iinc hO (L' := [(2, zi (n + 1)), (0, zp r), (1, zi b)]) (j := 2) dX3_widest_51 rfl (Nat.le_of_ble_eq_true rfl) rfl ?_
        refine zr_goto hO (tgt := 13) dX3_widest_54 rfl ?_
        refine zV.loc [1, 2, 0] rfl ?_
        exact ih13 _ (by omega) (n + 1) b rfl (by omega) (by omega) (by rw [show n + 1 - 1 = n by omega, gwid_p g i1, ← i3]; split <;> omega) (by omega) h hf
      · skip
        refine zr_iload_n hO (hl := rfl) (j := 1) (hi := rfl) dX3_widest_32 ?_
        refine zr_if_eq hO ⟨by omega, by omega⟩ (tgt := 49) dX3_widest_33 rfl (fun c33 => ?_) (fun c33 => ?_)
        · skip
          refine zr_iload_n hO (hl := rfl) (j := 2) (hi := rfl) dX3_widest_49 ?_
          refine zr_istore_n hO (L' := [(1, zi n), (0, zp r), (2, zi n)]) (hi := rfl) dX3_widest_50 (Nat.le_of_ble_eq_true rfl) rfl ?_
          refine zr_iinc hO (L' := [(2, zi (n + 1)), (1, zi n), (0, zp r)]) (j := 2) dX3_widest_51 rfl (Nat.le_of_ble_eq_true rfl) rfl ?_
          refine zr_goto hO (tgt := 13) dX3_widest_54 rfl ?_
          refine zV.loc [2, 1, 0] rfl ?_
          exact ih13 _ (by omega) (n + 1) n rfl (by omega) (by omega) (by rw [show n + 1 - 1 = n by omega, gwid_p g i1, ← i3]; split <;> omega) (by omega) h hf
        · skip
          refine zr_aload_n hO (hl := rfl) (j := 0) (hi := rfl) dX3_widest_36 ?_
          refine zr_iload_n hO (hl := rfl) (j := 2) (hi := rfl) dX3_widest_37 ?_
          refine zr_cVi hO zc_X3 zw_X3_139 (c_X3_length hI hf ((hs1.2 1 rfl).trans hg) n (by omega) (by omega)) dX3_widest_38 (zrd_of hf.1) rfl (rest := []) rfl ⟨Nat.le_of_ble_eq_true rfl, Nat.le_of_ble_eq_true rfl⟩ (Nat.le_of_ble_eq_true rfl) (Nat.le_refl _) (Nat.le_refl _) (fun x h hx => ?_)
          obtain ⟨hx, ⟨r3a, r3b⟩, hf⟩ := hx
          have hx : x = gln g n := hx
          subst hx
          refine zr_aload_n hO (hl := rfl) (j := 0) (hi := rfl) dX3_widest_41 ?_
          refine zr_iload_n hO (hl := rfl) (j := 1) (hi := rfl) dX3_widest_42 ?_
          refine zr_cVi hO zc_X3 zw_X3_139 (c_X3_length hI hf ((hs1.2 1 rfl).trans hg) b (by omega) (by omega)) dX3_widest_43 (zrd_of hf.1) rfl (rest := [zi (gln g n)]) rfl ⟨Nat.le_of_ble_eq_true rfl, Nat.le_of_ble_eq_true rfl⟩ (Nat.le_of_ble_eq_true rfl) (Nat.le_refl _) (Nat.le_refl _) (fun x h hx => ?_)
          obtain ⟨hx, ⟨r4a, r4b⟩, hf⟩ := hx
          have hx : x = gln g b := hx
          subst hx
          refine zr_icmp_le hO ⟨by omega, by omega⟩ ⟨by omega, by omega⟩ (tgt := 51) dX3_widest_46 rfl (fun c46 => ?_) (fun c46 => ?_)
          · skip
            refine zr_iinc hO (L' := [(2, zi (n + 1)), (0, zp r), (1, zi b)]) (j := 2) dX3_widest_51 rfl (Nat.le_of_ble_eq_true rfl) rfl ?_
            refine zr_goto hO (tgt := 13) dX3_widest_54 rfl ?_
            refine zV.loc [1, 2, 0] rfl ?_
            exact ih13 _ (by omega) (n + 1) b rfl (by omega) (by omega) (by rw [show n + 1 - 1 = n by omega, gwid_p g i1, ← i3]; split <;> omega) (by omega) h hf
          · skip
            refine zr_iload_n hO (hl := rfl) (j := 2) (hi := rfl) dX3_widest_49 ?_
            refine zr_istore_n hO (L' := [(1, zi n), (0, zp r), (2, zi n)]) (hi := rfl) dX3_widest_50 (Nat.le_of_ble_eq_true rfl) rfl ?_
            refine zr_iinc hO (L' := [(2, zi (n + 1)), (1, zi n), (0, zp r)]) (j := 2) dX3_widest_51 rfl (Nat.le_of_ble_eq_true rfl) rfl ?_
            refine zr_goto hO (tgt := 13) dX3_widest_54 rfl ?_
            refine zV.loc [2, 1, 0] rfl ?_
            exact ih13 _ (by omega) (n + 1) n rfl (by omega) (by omega) (by rw [show n + 1 - 1 = n by omega, gwid_p g i1, ← i3]; split <;> omega) (by omega) h hf
  refine zV.loc [2, 1, 0] rfl ?_
  exact hl13 _ 1 0 rfl (by omega) (by omega) (rfl) (by omega) h hf
theorem c_X3_deepest {G : zG} {r : Nat} {ad : Nat → Nat} {h0 : zHp} (hI : zRI r ad) {σ : zS} {h : zHp} (hf : zRf r ad σ h0 h) {g : Nat → Int} (hg : σ.2 1 = g) (hw : zwf g) : zC G yX3_deepest cX3_deepest 3 (some Jvm.ClassFile.FieldType.int) 7 157 0 0 [zp r] h (zPi (fun x h' => x = (gdee g) ∧ ∃ τ : zS, τ.1 0 = 0 ∧ zCo σ τ ∧ zRf r ad τ h0 h') zNo) := by
  refine zC.of zpn_X3 (Nat.le_of_ble_eq_true rfl) (L := [(0, zp r)]) rfl (fun K hO => ?_)
  obtain ⟨w1, w2, w3⟩ := id hw
  refine zr_aload_n hO (hl := rfl) (j := 0) (hi := rfl) dX3_deepest_0 ?_
  refine zr_iconst hO dX3_deepest_1 ?_
  refine zs_put hO hI hf 0 dX3_deepest_2 q2970 (Nat.le_of_ble_eq_true rfl) rfl rfl rfl ⟨by omega, by omega⟩ (fun h hf => ?_)
  refine zr_aload_n hO (hl := rfl) (j := 0) (hi := rfl) dX3_deepest_5 ?_
  refine zr_cVv hO zc_X3 zw_X3_174 (c_X3_layAll hI hf hg  (hw)) dX3_deepest_6 (zrd_of hf.1) rfl (rest := []) rfl ⟨Nat.le_of_ble_eq_true rfl, Nat.le_of_ble_eq_true rfl⟩ (Nat.le_of_ble_eq_true rfl) (Nat.le_refl _) (Nat.le_refl _) (fun h hx => ?_)
  obtain ⟨τ1, hs1, hd1, hf⟩ := hx
  refine zr_iconst hO dX3_deepest_9 ?_
  refine zr_istore_n hO (L' := [(1, zi 0), (0, zp r)]) (hi := rfl) dX3_deepest_10 (Nat.le_of_ble_eq_true rfl) rfl ?_
  refine zr_iconst hO dX3_deepest_11 ?_
  refine zr_istore_n hO (L' := [(2, zi 1), (1, zi 0), (0, zp r)]) (hi := rfl) dX3_deepest_12 (Nat.le_of_ble_eq_true rfl) rfl ?_
  have hl13 : ∀ (n9 : Nat) (n b : Int), (g 0 + 1 - n).toNat = n9 → ∀ (i1 : 1 ≤ n) (i2 : n ≤ g 0 + 1) (i3 : b = zfo (gdeeF g) 0 (n - 1).toNat) (i4 : 0 ≤ b ∧ b < n) (h : zHp) (hf : zRf r ad τ1 h0 h), zV G K 0 0 h 13 [(0, zp r), (1, zi b), (2, zi n)] [] := by
    intro n9
    induction n9 using Nat.strongRecOn with
    | _ n9 ih13 =>
    intro n b hn13 i1 i2 i3 i4 h hf
    refine zr_iload_n hO (hl := rfl) (j := 2) (hi := rfl) dX3_deepest_13 ?_
    refine zr_aload_n hO (hl := rfl) (j := 0) (hi := rfl) dX3_deepest_14 ?_
    refine zs_arr hO hf 1 dX3_deepest_15 q2971 (Nat.le_of_ble_eq_true rfl) rfl ?_
    refine zr_iconst hO dX3_deepest_18 ?_
    refine zs_ild hO hf 1 (f := g) (n := 2195) (j := 0) dX3_deepest_19 rfl rfl rfl ((hs1.2 1 rfl).trans hg) (by omega) (by omega) rfl (fun ⟨r1a, r1b⟩ => ?_)
    refine zr_icmp_gt hO ⟨by omega, by omega⟩ ⟨by omega, by omega⟩ (tgt := 50) dX3_deepest_20 rfl (fun c20 => ?_) (fun c20 => ?_)
    · skip
      refine zr_iload_n hO (hl := rfl) (j := 1) (hi := rfl) dX3_deepest_50 ?_
      exact zr_ireturn hO dX3_deepest_51 ⟨(by rw [i3, show n - 1 = g 0 by omega]; rfl), τ1, (((hs1.1 0 (by decide) (by decide)).trans rfl)), (((zCo.refl σ).uS (k := 0) (by decide) 0).tr hs1), hf⟩
    · skip
      refine zr_iload_n hO (hl := rfl) (j := 1) (hi := rfl) dX3_deepest_23 ?_
      refine zr_if_eq hO ⟨by omega, by omega⟩ (tgt := 42) dX3_deepest_24 rfl (fun c24 => ?_) (fun c24 => ?_)
      · skip
        refine zr_iload_n hO (hl := rfl) (j := 2) (hi := rfl) dX3_deepest_42 ?_
        refine zr_istore_n hO (L' := [(1, zi n), (0, zp r), (2, zi n)]) (hi := rfl) dX3_deepest_43 (Nat.le_of_ble_eq_true rfl) rfl ?_
        refine zr_iinc hO (L' := [(2, zi (n + 1)), (1, zi n), (0, zp r)]) (j := 2) dX3_deepest_44 rfl (Nat.le_of_ble_eq_true rfl) rfl ?_
        refine zr_goto hO (tgt := 13) dX3_deepest_47 rfl ?_
        refine zV.loc [2, 1, 0] rfl ?_
        exact ih13 _ (by omega) (n + 1) n rfl (by omega) (by omega) (by rw [show n + 1 - 1 = n by omega, gdee_p g i1, ← i3]; split <;> omega) (by omega) h hf
      · skip
        refine zr_aload_n hO (hl := rfl) (j := 0) (hi := rfl) dX3_deepest_27 ?_
        refine zs_arr hO hf 20 dX3_deepest_28 q2990 (Nat.le_of_ble_eq_true rfl) rfl ?_
        refine zr_iload_n hO (hl := rfl) (j := 2) (hi := rfl) dX3_deepest_31 ?_
        refine zs_ild hO hf 20 (f := τ1.2 20) (n := 82) (j := n.toNat) dX3_deepest_32 rfl rfl rfl rfl (by omega) (by omega) rfl (fun ⟨r2a, r2b⟩ => ?_)
        refine zr_aload_n hO (hl := rfl) (j := 0) (hi := rfl) dX3_deepest_33 ?_
        refine zs_arr hO hf 20 dX3_deepest_34 q2990 (Nat.le_of_ble_eq_true rfl) rfl ?_
        refine zr_iload_n hO (hl := rfl) (j := 1) (hi := rfl) dX3_deepest_37 ?_
        refine zs_ild hO hf 20 (f := τ1.2 20) (n := 82) (j := b.toNat) dX3_deepest_38 rfl rfl rfl rfl (by omega) (by omega) rfl (fun ⟨r3a, r3b⟩ => ?_)
        have e1 := (zHd_at hd1.2.2 (n := n) (by omega) (by omega)).1
        have e2 := (zHd_at hd1.2.2 (n := b) (by omega) (by omega)).1
        refine zr_icmp_le hO ⟨by omega, by omega⟩ ⟨by omega, by omega⟩ (tgt := 44) dX3_deepest_39 rfl (fun c39 => ?_) (fun c39 => ?_)
        · skip
          refine zr_iinc hO (L' := [(2, zi (n + 1)), (0, zp r), (1, zi b)]) (j := 2) dX3_deepest_44 rfl (Nat.le_of_ble_eq_true rfl) rfl ?_
          refine zr_goto hO (tgt := 13) dX3_deepest_47 rfl ?_
          refine zV.loc [1, 2, 0] rfl ?_
          exact ih13 _ (by omega) (n + 1) b rfl (by omega) (by omega) (by rw [show n + 1 - 1 = n by omega, gdee_p g i1, ← i3]; split <;> omega) (by omega) h hf
        · skip
          refine zr_iload_n hO (hl := rfl) (j := 2) (hi := rfl) dX3_deepest_42 ?_
          refine zr_istore_n hO (L' := [(1, zi n), (0, zp r), (2, zi n)]) (hi := rfl) dX3_deepest_43 (Nat.le_of_ble_eq_true rfl) rfl ?_
          refine zr_iinc hO (L' := [(2, zi (n + 1)), (1, zi n), (0, zp r)]) (j := 2) dX3_deepest_44 rfl (Nat.le_of_ble_eq_true rfl) rfl ?_
          refine zr_goto hO (tgt := 13) dX3_deepest_47 rfl ?_
          refine zV.loc [2, 1, 0] rfl ?_
          exact ih13 _ (by omega) (n + 1) n rfl (by omega) (by omega) (by rw [show n + 1 - 1 = n by omega, gdee_p g i1, ← i3]; split <;> omega) (by omega) h hf
  refine zV.loc [2, 1, 0] rfl ?_
  exact hl13 _ 1 0 rfl (by omega) (by omega) (rfl) (by omega) h hf
theorem zw_X3_239 : zYw RX3 RX3 239 yX3_isInside cX3_isInside 3 (some Jvm.ClassFile.FieldType.boolean) 2 := ⟨q3290, q3292, qs78, q116, q3293, rfl, ⟨by decide +kernel, by decide +kernel, by decide +kernel⟩⟩
theorem c_X3_innermost {G : zG} {r : Nat} {ad : Nat → Nat} {h0 : zHp} (hI : zRI r ad) {σ : zS} {h : zHp} (hf : zRf r ad σ h0 h) {g : Nat → Int} (hg : σ.2 1 = g) (n : Int) (hn : zR n) (hw : zwf g) : zC G yX3_innermost cX3_innermost 4 (some Jvm.ClassFile.FieldType.int) 7 157 0 0 [zp r, zi n] h (zPi (fun x h' => x = (ginn g n) ∧ ∃ τ : zS, zSm σ τ ∧ zLd g (gcl g) τ ∧ zRf r ad τ h0 h') zNo) := by
  refine zC.of zpn_X3 (Nat.le_of_ble_eq_true rfl) (L := [(0, zp r), (1, zi n)]) rfl (fun K hO => ?_)
  obtain ⟨w1, w2, w3⟩ := id hw
  obtain ⟨hna, hnb⟩ := hn
  have hN := gN_le g
  refine zr_aload_n hO (hl := rfl) (j := 0) (hi := rfl) dX3_innermost_0 ?_
  refine zr_cVv hO zc_X3 zw_X3_174 (c_X3_layAll hI hf hg  (hw)) dX3_innermost_1 (zrd_of hf.1) rfl (rest := []) rfl ⟨Nat.le_of_ble_eq_true rfl, Nat.le_of_ble_eq_true rfl⟩ (Nat.le_of_ble_eq_true rfl) (Nat.le_refl _) (Nat.le_refl _) (fun h hx => ?_)
  obtain ⟨τ1, hs1, hd1, hf⟩ := hx
  refine zr_iconst hO dX3_innermost_4 ?_
  refine zr_istore_n hO (L' := [(2, zi (-1)), (0, zp r), (1, zi n)]) (hi := rfl) dX3_innermost_5 (Nat.le_of_ble_eq_true rfl) rfl ?_
  refine zr_iconst hO dX3_innermost_6 ?_
  refine zr_istore_n hO (L' := [(3, zi 0), (2, zi (-1)), (0, zp r), (1, zi n)]) (hi := rfl) dX3_innermost_7 (Nat.le_of_ble_eq_true rfl) rfl ?_
  have hl8 : ∀ (n9 : Nat) (k b : Int), ((gN g : Int) - k).toNat = n9 → ∀ (i1 : 0 ≤ k) (i2 : k ≤ gN g) (i3 : b = zfo (ginnF g n) (-1) k.toNat) (i4 : -1 ≤ b ∧ b < k) (h : zHp) (hf : zRf r ad τ1 h0 h), zV G K 0 0 h 8 [(0, zp r), (1, zi n), (2, zi b), (3, zi k)] [] := by
    intro n9
    induction n9 using Nat.strongRecOn with
    | _ n9 ih8 =>
    intro k b hn8 i1 i2 i3 i4 h hf
    refine zr_iload_n hO (hl := rfl) (j := 3) (hi := rfl) dX3_innermost_8 ?_
    refine zr_aload_n hO (hl := rfl) (j := 0) (hi := rfl) dX3_innermost_9 ?_
    refine zs_get hO hf 22 (x := τ1.1 22) dX3_innermost_10 q2992 (Nat.le_of_ble_eq_true rfl) rfl (fun ⟨r1a, r1b⟩ => ?_)
    rw [show (τ1.1 22) = (gN g : Int) from hd1.2.1.1]
    refine zr_icmp_ge hO ⟨by omega, by omega⟩ ⟨by omega, by omega⟩ (tgt := 53) dX3_innermost_13 rfl (fun c13 => ?_) (fun c13 => ?_)
    · skip
      refine zr_iload_n hO (hl := rfl) (j := 2) (hi := rfl) dX3_innermost_53 ?_
      exact zr_ireturn hO dX3_innermost_54 ⟨(by rw [i3, show k = gN g by omega, Int.toNat_natCast]; rfl), _, ((zSm.refl σ).trans hs1), hd1, hf⟩
    · skip
      have hN := gN_le g
      have hrk := hd1.2.1.2 k.toNat (by omega)
      have hgk := g_rows hw (r := k.toNat) (by omega)
      refine zr_aload_n hO (hl := rfl) (j := 0) (hi := rfl) dX3_innermost_16 ?_
      refine zr_iload_n hO (hl := rfl) (j := 1) (hi := rfl) dX3_innermost_17 ?_
      refine zr_iload_n hO (hl := rfl) (j := 3) (hi := rfl) dX3_innermost_18 ?_
      refine zr_cVi hO zc_X3 zw_X3_239 (c_X3_isInside hI hf (rfl : τ1.2 14 = (τ1.2 14)) (rfl : τ1.2 15 = (τ1.2 15)) n k (⟨hna, hnb⟩) (by omega) (by omega)) dX3_innermost_19 (zrd_of hf.1) rfl (rest := []) rfl ⟨Nat.le_of_ble_eq_true rfl, Nat.le_of_ble_eq_true rfl⟩ (Nat.le_of_ble_eq_true rfl) (Nat.le_refl _) (Nat.le_refl _) (fun x h hx => ?_)
      obtain ⟨hx, hf⟩ := hx
      have hx : x = zB (((τ1.2 14)) k.toNat < n ∧ n < ((τ1.2 15)) k.toNat) := hx
      subst hx
      refine zr_if_eq hO (zR_B _) (tgt := 47) dX3_innermost_22 rfl (fun c22 => ?_) (fun c22 => ?_)
      · skip
        have c22 := zB_eq c22
        refine zr_iinc hO (L' := [(3, zi (k + 1)), (0, zp r), (1, zi n), (2, zi b)]) (j := 3) dX3_innermost_47 rfl (Nat.le_of_ble_eq_true rfl) rfl ?_
        refine zr_goto hO (tgt := 8) dX3_innermost_50 rfl ?_
        refine zV.loc [1, 2, 3, 0] rfl ?_
        exact ih8 _ (by omega) (k + 1) b rfl (by omega) (by omega) (by rw [ginn_s g n i1, ← i3]; split <;> omega) (by omega) h hf
      · skip
        have c22 := zB_ne c22
        refine zr_iload_n hO (hl := rfl) (j := 2) (hi := rfl) dX3_innermost_25 ?_
        refine zr_iconst hO dX3_innermost_26 ?_
        refine zr_icmp_eq hO ⟨by omega, by omega⟩ ⟨by omega, by omega⟩ (tgt := 45) dX3_innermost_27 rfl (fun c27 => ?_) (fun c27 => ?_)
        · skip
          refine zr_iload_n hO (hl := rfl) (j := 3) (hi := rfl) dX3_innermost_45 ?_
          refine zr_istore_n hO (L' := [(2, zi k), (0, zp r), (1, zi n), (3, zi k)]) (hi := rfl) dX3_innermost_46 (Nat.le_of_ble_eq_true rfl) rfl ?_
          refine zr_iinc hO (L' := [(3, zi (k + 1)), (2, zi k), (0, zp r), (1, zi n)]) (j := 3) dX3_innermost_47 rfl (Nat.le_of_ble_eq_true rfl) rfl ?_
          refine zr_goto hO (tgt := 8) dX3_innermost_50 rfl ?_
          refine zV.loc [2, 3, 1, 0] rfl ?_
          exact ih8 _ (by omega) (k + 1) k rfl (by omega) (by omega) (by rw [ginn_s g n i1, ← i3]; split <;> omega) (by omega) h hf
        · skip
          refine zr_aload_n hO (hl := rfl) (j := 0) (hi := rfl) dX3_innermost_30 ?_
          refine zs_arr hO hf 18 dX3_innermost_31 q2988 (Nat.le_of_ble_eq_true rfl) rfl ?_
          refine zr_iload_n hO (hl := rfl) (j := 3) (hi := rfl) dX3_innermost_34 ?_
          refine zs_ild hO hf 18 (f := τ1.2 18) (n := 960) (j := k.toNat) dX3_innermost_35 rfl rfl rfl rfl (by omega) (by omega) rfl (fun ⟨r3a, r3b⟩ => ?_)
          refine zr_aload_n hO (hl := rfl) (j := 0) (hi := rfl) dX3_innermost_36 ?_
          refine zs_arr hO hf 18 dX3_innermost_37 q2988 (Nat.le_of_ble_eq_true rfl) rfl ?_
          refine zr_iload_n hO (hl := rfl) (j := 2) (hi := rfl) dX3_innermost_40 ?_
          refine zs_ild hO hf 18 (f := τ1.2 18) (n := 960) (j := b.toNat) dX3_innermost_41 rfl rfl rfl rfl (by omega) (by omega) rfl (fun ⟨r4a, r4b⟩ => ?_)
          have hrb := hd1.2.1.2 b.toNat (by omega)
          have hgb := g_rows hw (r := b.toNat) (by omega)
          refine zr_icmp_le hO ⟨by omega, by omega⟩ ⟨by omega, by omega⟩ (tgt := 47) dX3_innermost_42 rfl (fun c42 => ?_) (fun c42 => ?_)
          · skip
            refine zr_iinc hO (L' := [(3, zi (k + 1)), (0, zp r), (1, zi n), (2, zi b)]) (j := 3) dX3_innermost_47 rfl (Nat.le_of_ble_eq_true rfl) rfl ?_
            refine zr_goto hO (tgt := 8) dX3_innermost_50 rfl ?_
            refine zV.loc [1, 2, 3, 0] rfl ?_
            exact ih8 _ (by omega) (k + 1) b rfl (by omega) (by omega) (by rw [ginn_s g n i1, ← i3]; split <;> omega) (by omega) h hf
          · skip
            refine zr_iload_n hO (hl := rfl) (j := 3) (hi := rfl) dX3_innermost_45 ?_
            refine zr_istore_n hO (L' := [(2, zi k), (0, zp r), (1, zi n), (3, zi k)]) (hi := rfl) dX3_innermost_46 (Nat.le_of_ble_eq_true rfl) rfl ?_
            refine zr_iinc hO (L' := [(3, zi (k + 1)), (2, zi k), (0, zp r), (1, zi n)]) (j := 3) dX3_innermost_47 rfl (Nat.le_of_ble_eq_true rfl) rfl ?_
            refine zr_goto hO (tgt := 8) dX3_innermost_50 rfl ?_
            refine zV.loc [2, 3, 1, 0] rfl ?_
            exact ih8 _ (by omega) (k + 1) k rfl (by omega) (by omega) (by rw [ginn_s g n i1, ← i3]; split <;> omega) (by omega) h hf
  refine zV.loc [2, 3, 1, 0] rfl ?_
  exact hl8 _ 0 (-1) rfl (by omega) (by omega) (rfl) (by omega) h hf
theorem zw_X3_236 : zYw RX3 RX3 236 yX3_innermost cX3_innermost 4 (some Jvm.ClassFile.FieldType.int) 1 := ⟨q3286, q3288, qs77, q116, q3289, rfl, ⟨by decide +kernel, by decide +kernel, by decide +kernel⟩⟩
theorem c_X3_regionAt {G : zG} {r : Nat} {ad : Nat → Nat} {h0 : zHp} (hI : zRI r ad) {σ : zS} {h : zHp} (hf : zRf r ad σ h0 h) {g : Nat → Int} (hg : σ.2 1 = g) (n : Int) (hn : zR n) (hw : zwf g) : zC G yX3_regionAt cX3_regionAt 2 (some Jvm.ClassFile.FieldType.int) 8 180 0 0 [zp r, zi n] h (zPi (fun x h' => x = (if 1 ≤ n ∧ n ≤ g 0 then ginn g n else 0) ∧ ∃ τ : zS, τ.1 0 = (1 - zB (1 ≤ n ∧ n ≤ g 0)) ∧ zCo σ τ ∧ zRf r ad τ h0 h') zNo) := by
  refine zC.of zpn_X3 (Nat.le_of_ble_eq_true rfl) (L := [(0, zp r), (1, zi n)]) rfl (fun K hO => ?_)
  obtain ⟨w1, w2, w3⟩ := id hw
  obtain ⟨hna, hnb⟩ := hn
  refine zr_aload_n hO (hl := rfl) (j := 0) (hi := rfl) dX3_regionAt_0 ?_
  refine zr_aload_n hO (hl := rfl) (j := 0) (hi := rfl) dX3_regionAt_1 ?_
  refine zr_iload_n hO (hl := rfl) (j := 1) (hi := rfl) dX3_regionAt_2 ?_
  refine zr_cVi hO zc_X3 zw_X3_167 (c_X3_isLine hI hf hg n (⟨by omega, by omega⟩)) dX3_regionAt_3 (zrd_of hf.1) rfl (rest := [zp r]) rfl ⟨Nat.le_of_ble_eq_true rfl, Nat.le_of_ble_eq_true rfl⟩ (Nat.le_of_ble_eq_true rfl) (Nat.le_refl _) (Nat.le_refl _) (fun x h hx => ?_)
  obtain ⟨hx, hf⟩ := hx
  have hx : x = zB (1 ≤ n ∧ n ≤ g 0) := hx
  subst hx
  refine zr_cVi hO zc_X3 zw_X3_111 (c_X3_may hI hf (zB (1 ≤ n ∧ n ≤ g 0)) (zB_01 _)) dX3_regionAt_6 (zrd_of hf.1) rfl (rest := []) rfl ⟨Nat.le_of_ble_eq_true rfl, Nat.le_of_ble_eq_true rfl⟩ (Nat.le_of_ble_eq_true rfl) (Nat.le_refl _) (Nat.le_refl _) (fun x h hx => ?_)
  obtain ⟨hx, hf⟩ := hx
  have hx : x = (zB (1 ≤ n ∧ n ≤ g 0)) := hx
  subst hx
  have hf : zRf r ad (zuS σ 0 (1 - (zB (1 ≤ n ∧ n ≤ g 0)))) h0 h := hf
  refine zr_if_eq hO (zR_B _) (tgt := 20) dX3_regionAt_9 rfl (fun c9 => ?_) (fun c9 => ?_)
  · skip
    have c9 := zB_eq c9
    refine zr_iconst hO dX3_regionAt_20 ?_
    exact zr_ireturn hO dX3_regionAt_21 ⟨(by rw [if_neg c9]), (zuS σ 0 (1 - (zB (1 ≤ n ∧ n ≤ g 0)))), (rfl), ((zCo.refl σ).uS (k := 0) (by decide) (1 - (zB (1 ≤ n ∧ n ≤ g 0)))), hf⟩
  · skip
    have c9 := zB_ne c9
    refine zr_aload_n hO (hl := rfl) (j := 0) (hi := rfl) dX3_regionAt_12 ?_
    refine zr_iload_n hO (hl := rfl) (j := 1) (hi := rfl) dX3_regionAt_13 ?_
    refine zr_cVi hO zc_X3 zw_X3_236 (c_X3_innermost hI hf hg n (⟨by omega, by omega⟩) (hw)) dX3_regionAt_14 (zrd_of hf.1) rfl (rest := []) rfl ⟨Nat.le_of_ble_eq_true rfl, Nat.le_of_ble_eq_true rfl⟩ (Nat.le_of_ble_eq_true rfl) (Nat.le_refl _) (Nat.le_refl _) (fun x h hx => ?_)
    obtain ⟨hxv, τ1, hs1, hd1, hf⟩ := hx
    have hxv : x = ginn g n := hxv
    rw [hxv]
    refine zr_goto hO (tgt := 21) dX3_regionAt_17 rfl ?_
    exact zr_ireturn hO dX3_regionAt_21 ⟨(by rw [if_pos c9]), τ1, (((hs1.1 0 (by decide) (by decide)).trans rfl)), (((zCo.refl σ).uS (k := 0) (by decide) (1 - (zB (1 ≤ n ∧ n ≤ g 0)))).tr hs1), hf⟩
theorem zw_X3_215 : zYw RX3 RX3 215 yX3_isFolded cX3_isFolded 2 (some Jvm.ClassFile.FieldType.boolean) 1 := ⟨q3251, q3253, qs71, q116, q3254, rfl, ⟨by decide +kernel, by decide +kernel, by decide +kernel⟩⟩
theorem c_X3_hiddenBy {G : zG} {r : Nat} {ad : Nat → Nat} {h0 : zHp} (hI : zRI r ad) {σ : zS} {h : zHp} (hf : zRf r ad σ h0 h) {g : Nat → Int} (hg : σ.2 1 = g) (n : Int) (hn : zR n) (hw : zwf g) : zC G yX3_hiddenBy cX3_hiddenBy 4 (some Jvm.ClassFile.FieldType.int) 7 157 0 0 [zp r, zi n] h (zPi (fun x h' => x = (if 1 ≤ n ∧ n ≤ g 0 then gout g n else 0) ∧ ∃ τ : zS, τ.1 0 = (1 - zB (1 ≤ n ∧ n ≤ g 0)) ∧ zCo σ τ ∧ zRf r ad τ h0 h') zNo) := by
  refine zC.of zpn_X3 (Nat.le_of_ble_eq_true rfl) (L := [(0, zp r), (1, zi n)]) rfl (fun K hO => ?_)
  obtain ⟨w1, w2, w3⟩ := id hw
  obtain ⟨hna, hnb⟩ := hn
  have hN := gN_le g
  refine zr_aload_n hO (hl := rfl) (j := 0) (hi := rfl) dX3_hiddenBy_0 ?_
  refine zr_aload_n hO (hl := rfl) (j := 0) (hi := rfl) dX3_hiddenBy_1 ?_
  refine zr_iload_n hO (hl := rfl) (j := 1) (hi := rfl) dX3_hiddenBy_2 ?_
  refine zr_cVi hO zc_X3 zw_X3_167 (c_X3_isLine hI hf hg n (⟨by omega, by omega⟩)) dX3_hiddenBy_3 (zrd_of hf.1) rfl (rest := [zp r]) rfl ⟨Nat.le_of_ble_eq_true rfl, Nat.le_of_ble_eq_true rfl⟩ (Nat.le_of_ble_eq_true rfl) (Nat.le_refl _) (Nat.le_refl _) (fun x h hx => ?_)
  obtain ⟨hx, hf⟩ := hx
  have hx : x = zB (1 ≤ n ∧ n ≤ g 0) := hx
  subst hx
  refine zr_cVi hO zc_X3 zw_X3_111 (c_X3_may hI hf (zB (1 ≤ n ∧ n ≤ g 0)) (zB_01 _)) dX3_hiddenBy_6 (zrd_of hf.1) rfl (rest := []) rfl ⟨Nat.le_of_ble_eq_true rfl, Nat.le_of_ble_eq_true rfl⟩ (Nat.le_of_ble_eq_true rfl) (Nat.le_refl _) (Nat.le_refl _) (fun x h hx => ?_)
  obtain ⟨hx, hf⟩ := hx
  have hx : x = (zB (1 ≤ n ∧ n ≤ g 0)) := hx
  subst hx
  have hf : zRf r ad (zuS σ 0 (1 - (zB (1 ≤ n ∧ n ≤ g 0)))) h0 h := hf
  refine zr_if_ne hO (zR_B _) (tgt := 14) dX3_hiddenBy_9 rfl (fun c9 => ?_) (fun c9 => ?_)
  · skip
    have c9 := zB_ne c9
    refine zr_aload_n hO (hl := rfl) (j := 0) (hi := rfl) dX3_hiddenBy_14 ?_
    refine zr_cVv hO zc_X3 zw_X3_174 (c_X3_layAll hI hf hg  (hw)) dX3_hiddenBy_15 (zrd_of hf.1) rfl (rest := []) rfl ⟨Nat.le_of_ble_eq_true rfl, Nat.le_of_ble_eq_true rfl⟩ (Nat.le_of_ble_eq_true rfl) (Nat.le_refl _) (Nat.le_refl _) (fun h hx => ?_)
    obtain ⟨τ1, hs1, hd1, hf⟩ := hx
    refine zr_iconst hO dX3_hiddenBy_18 ?_
    refine zr_istore_n hO (L' := [(2, zi (-1)), (0, zp r), (1, zi n)]) (hi := rfl) dX3_hiddenBy_19 (Nat.le_of_ble_eq_true rfl) rfl ?_
    refine zr_iconst hO dX3_hiddenBy_20 ?_
    refine zr_istore_n hO (L' := [(3, zi 0), (2, zi (-1)), (0, zp r), (1, zi n)]) (hi := rfl) dX3_hiddenBy_21 (Nat.le_of_ble_eq_true rfl) rfl ?_
    have hl22 : ∀ (n9 : Nat) (k b : Int), ((gN g : Int) - k).toNat = n9 → ∀ (i1 : 0 ≤ k) (i2 : k ≤ gN g) (i3 : b = zfo (gouF g n) (-1) k.toNat) (i4 : -1 ≤ b ∧ b < k) (h : zHp) (hf : zRf r ad τ1 h0 h), zV G K 0 0 h 22 [(0, zp r), (1, zi n), (2, zi b), (3, zi k)] [] := by
      intro n9
      induction n9 using Nat.strongRecOn with
      | _ n9 ih22 =>
      intro k b hn22 i1 i2 i3 i4 h hf
      refine zr_iload_n hO (hl := rfl) (j := 3) (hi := rfl) dX3_hiddenBy_22 ?_
      refine zr_aload_n hO (hl := rfl) (j := 0) (hi := rfl) dX3_hiddenBy_23 ?_
      refine zs_get hO hf 22 (x := τ1.1 22) dX3_hiddenBy_24 q2992 (Nat.le_of_ble_eq_true rfl) rfl (fun ⟨r3a, r3b⟩ => ?_)
      rw [show (τ1.1 22) = (gN g : Int) from hd1.2.1.1]
      refine zr_icmp_ge hO ⟨by omega, by omega⟩ ⟨by omega, by omega⟩ (tgt := 75) dX3_hiddenBy_27 rfl (fun c27 => ?_) (fun c27 => ?_)
      · skip
        refine zr_iload_n hO (hl := rfl) (j := 2) (hi := rfl) dX3_hiddenBy_75 ?_
        exact zr_ireturn hO dX3_hiddenBy_76 ⟨(by rw [if_pos c9, i3, show k = gN g by omega, Int.toNat_natCast]; rfl), τ1, (((hs1.1 0 (by decide) (by decide)).trans rfl)), (((zCo.refl σ).uS (k := 0) (by decide) (1 - (zB (1 ≤ n ∧ n ≤ g 0)))).tr hs1), hf⟩
      · skip
        have hN := gN_le g
        have hrk := hd1.2.1.2 k.toNat (by omega)
        have hgk := g_rows hw (r := k.toNat) (by omega)
        refine zr_aload_n hO (hl := rfl) (j := 0) (hi := rfl) dX3_hiddenBy_30 ?_
        refine zr_iload_n hO (hl := rfl) (j := 1) (hi := rfl) dX3_hiddenBy_31 ?_
        refine zr_iload_n hO (hl := rfl) (j := 3) (hi := rfl) dX3_hiddenBy_32 ?_
        refine zr_cVi hO zc_X3 zw_X3_239 (c_X3_isInside hI hf (rfl : τ1.2 14 = (τ1.2 14)) (rfl : τ1.2 15 = (τ1.2 15)) n k (⟨hna, hnb⟩) (by omega) (by omega)) dX3_hiddenBy_33 (zrd_of hf.1) rfl (rest := []) rfl ⟨Nat.le_of_ble_eq_true rfl, Nat.le_of_ble_eq_true rfl⟩ (Nat.le_of_ble_eq_true rfl) (Nat.le_refl _) (Nat.le_refl _) (fun x h hx => ?_)
        obtain ⟨hx, hf⟩ := hx
        have hx : x = zB (((τ1.2 14)) k.toNat < n ∧ n < ((τ1.2 15)) k.toNat) := hx
        subst hx
        refine zr_if_eq hO (zR_B _) (tgt := 69) dX3_hiddenBy_36 rfl (fun c36 => ?_) (fun c36 => ?_)
        · skip
          have c36 := zB_eq c36
          refine zr_iinc hO (L' := [(3, zi (k + 1)), (0, zp r), (1, zi n), (2, zi b)]) (j := 3) dX3_hiddenBy_69 rfl (Nat.le_of_ble_eq_true rfl) rfl ?_
          refine zr_goto hO (tgt := 22) dX3_hiddenBy_72 rfl ?_
          refine zV.loc [1, 2, 3, 0] rfl ?_
          exact ih22 _ (by omega) (k + 1) b rfl (by omega) (by omega) (by rw [gout_s g n i1, ← i3]; rw [hrk.1] at *; split <;> omega) (by omega) h hf
        · skip
          have c36 := zB_ne c36
          refine zr_aload_n hO (hl := rfl) (j := 0) (hi := rfl) dX3_hiddenBy_39 ?_
          refine zr_iload_n hO (hl := rfl) (j := 3) (hi := rfl) dX3_hiddenBy_40 ?_
          refine zr_cVi hO zc_X3 zw_X3_215 (c_X3_isFolded hI hf ((hs1.2 1 rfl).trans hg) (rfl : τ1.2 14 = (τ1.2 14)) k (by omega) (by omega) (by omega) (by omega)) dX3_hiddenBy_41 (zrd_of hf.1) rfl (rest := []) rfl ⟨Nat.le_of_ble_eq_true rfl, Nat.le_of_ble_eq_true rfl⟩ (Nat.le_of_ble_eq_true rfl) (Nat.le_refl _) (Nat.le_refl _) (fun x h hx => ?_)
          obtain ⟨hx, hf⟩ := hx
          have hx : x = zB (gcl g (((τ1.2 14)) k.toNat) = 1) := hx
          subst hx
          refine zr_if_eq hO (zR_B _) (tgt := 69) dX3_hiddenBy_44 rfl (fun c44 => ?_) (fun c44 => ?_)
          · skip
            have c44 := zB_eq c44
            refine zr_iinc hO (L' := [(3, zi (k + 1)), (0, zp r), (1, zi n), (2, zi b)]) (j := 3) dX3_hiddenBy_69 rfl (Nat.le_of_ble_eq_true rfl) rfl ?_
            refine zr_goto hO (tgt := 22) dX3_hiddenBy_72 rfl ?_
            refine zV.loc [1, 2, 3, 0] rfl ?_
            exact ih22 _ (by omega) (k + 1) b rfl (by omega) (by omega) (by rw [gout_s g n i1, ← i3]; rw [hrk.1] at *; split <;> omega) (by omega) h hf
          · skip
            have c44 := zB_ne c44
            refine zr_iload_n hO (hl := rfl) (j := 2) (hi := rfl) dX3_hiddenBy_47 ?_
            refine zr_iconst hO dX3_hiddenBy_48 ?_
            refine zr_icmp_eq hO ⟨by omega, by omega⟩ ⟨by omega, by omega⟩ (tgt := 67) dX3_hiddenBy_49 rfl (fun c49 => ?_) (fun c49 => ?_)
            · skip
              refine zr_iload_n hO (hl := rfl) (j := 3) (hi := rfl) dX3_hiddenBy_67 ?_
              refine zr_istore_n hO (L' := [(2, zi k), (0, zp r), (1, zi n), (3, zi k)]) (hi := rfl) dX3_hiddenBy_68 (Nat.le_of_ble_eq_true rfl) rfl ?_
              refine zr_iinc hO (L' := [(3, zi (k + 1)), (2, zi k), (0, zp r), (1, zi n)]) (j := 3) dX3_hiddenBy_69 rfl (Nat.le_of_ble_eq_true rfl) rfl ?_
              refine zr_goto hO (tgt := 22) dX3_hiddenBy_72 rfl ?_
              refine zV.loc [2, 3, 1, 0] rfl ?_
              exact ih22 _ (by omega) (k + 1) k rfl (by omega) (by omega) (by rw [gout_s g n i1, ← i3]; rw [hrk.1] at *; split <;> omega) (by omega) h hf
            · skip
              refine zr_aload_n hO (hl := rfl) (j := 0) (hi := rfl) dX3_hiddenBy_52 ?_
              refine zs_arr hO hf 18 dX3_hiddenBy_53 q2988 (Nat.le_of_ble_eq_true rfl) rfl ?_
              refine zr_iload_n hO (hl := rfl) (j := 3) (hi := rfl) dX3_hiddenBy_56 ?_
              refine zs_ild hO hf 18 (f := τ1.2 18) (n := 960) (j := k.toNat) dX3_hiddenBy_57 rfl rfl rfl rfl (by omega) (by omega) rfl (fun ⟨r6a, r6b⟩ => ?_)
              refine zr_aload_n hO (hl := rfl) (j := 0) (hi := rfl) dX3_hiddenBy_58 ?_
              have hrb := hd1.2.1.2 b.toNat (by omega)
              have hgb := g_rows hw (r := b.toNat) (by omega)
              refine zs_arr hO hf 18 dX3_hiddenBy_59 q2988 (Nat.le_of_ble_eq_true rfl) rfl ?_
              refine zr_iload_n hO (hl := rfl) (j := 2) (hi := rfl) dX3_hiddenBy_62 ?_
              refine zs_ild hO hf 18 (f := τ1.2 18) (n := 960) (j := b.toNat) dX3_hiddenBy_63 rfl rfl rfl rfl (by omega) (by omega) rfl (fun ⟨r7a, r7b⟩ => ?_)
              refine zr_icmp_ge hO ⟨by omega, by omega⟩ ⟨by omega, by omega⟩ (tgt := 69) dX3_hiddenBy_64 rfl (fun c64 => ?_) (fun c64 => ?_)
              · skip
                refine zr_iinc hO (L' := [(3, zi (k + 1)), (0, zp r), (1, zi n), (2, zi b)]) (j := 3) dX3_hiddenBy_69 rfl (Nat.le_of_ble_eq_true rfl) rfl ?_
                refine zr_goto hO (tgt := 22) dX3_hiddenBy_72 rfl ?_
                refine zV.loc [1, 2, 3, 0] rfl ?_
                exact ih22 _ (by omega) (k + 1) b rfl (by omega) (by omega) (by rw [gout_s g n i1, ← i3]; rw [hrk.1] at *; split <;> omega) (by omega) h hf
              · skip
                refine zr_iload_n hO (hl := rfl) (j := 3) (hi := rfl) dX3_hiddenBy_67 ?_
                refine zr_istore_n hO (L' := [(2, zi k), (0, zp r), (1, zi n), (3, zi k)]) (hi := rfl) dX3_hiddenBy_68 (Nat.le_of_ble_eq_true rfl) rfl ?_
                refine zr_iinc hO (L' := [(3, zi (k + 1)), (2, zi k), (0, zp r), (1, zi n)]) (j := 3) dX3_hiddenBy_69 rfl (Nat.le_of_ble_eq_true rfl) rfl ?_
                refine zr_goto hO (tgt := 22) dX3_hiddenBy_72 rfl ?_
                refine zV.loc [2, 3, 1, 0] rfl ?_
                exact ih22 _ (by omega) (k + 1) k rfl (by omega) (by omega) (by rw [gout_s g n i1, ← i3]; rw [hrk.1] at *; split <;> omega) (by omega) h hf
    refine zV.loc [2, 3, 1, 0] rfl ?_
    exact hl22 _ 0 (-1) rfl (by omega) (by omega) (rfl) (by omega) h hf
  · skip
    have c9 := zB_eq c9
    refine zr_iconst hO dX3_hiddenBy_12 ?_
    exact zr_ireturn hO dX3_hiddenBy_13 ⟨(by rw [if_neg c9]), (zuS σ 0 (1 - (zB (1 ≤ n ∧ n ≤ g 0)))), (rfl), ((zCo.refl σ).uS (k := 0) (by decide) (1 - (zB (1 ≤ n ∧ n ≤ g 0)))), hf⟩
theorem zw_X3_170 : zYw RX3 RX3 170 yX3_mayBoth cX3_mayBoth 3 (some Jvm.ClassFile.FieldType.boolean) 2 := ⟨q3116, q3118, qs50, q116, q3119, rfl, ⟨by decide +kernel, by decide +kernel, by decide +kernel⟩⟩
theorem c_X3_region {G : zG} {r : Nat} {ad : Nat → Nat} {h0 : zHp} (hI : zRI r ad) {σ : zS} {h : zHp} (hf : zRf r ad σ h0 h) {g : Nat → Int} (hg : σ.2 1 = g) (k : Int) (w : Int) (hk : zR k) (hv : zR w) (hw : zwf g) : zC G yX3_region cX3_region 3 (some Jvm.ClassFile.FieldType.int) 7 157 0 0 [zp r, zi k, zi w] h (zPi (fun x h' => x = (if (0 ≤ k ∧ k ≤ (gN g : Int) - 1) ∧ (0 ≤ w ∧ w ≤ 7) then gRg g k w else 0) ∧ ∃ τ : zS, τ.1 0 = (if zB (0 ≤ k ∧ k ≤ (gN g : Int) - 1) = 0 then 1 else 2 - 2 * zB (0 ≤ w ∧ w ≤ 7)) ∧ zCo σ τ ∧ zRf r ad τ h0 h') zNo) := by
  refine zC.of zpn_X3 (Nat.le_of_ble_eq_true rfl) (L := [(0, zp r), (1, zi k), (2, zi w)]) rfl (fun K hO => ?_)
  obtain ⟨w1, w2, w3⟩ := id hw
  obtain ⟨hka, hkb⟩ := hk
  obtain ⟨hva, hvb⟩ := hv
  have hN := gN_le g
  refine zr_aload_n hO (hl := rfl) (j := 0) (hi := rfl) dX3_region_0 ?_
  refine zr_cVv hO zc_X3 zw_X3_174 (c_X3_layAll hI hf hg  (hw)) dX3_region_1 (zrd_of hf.1) rfl (rest := []) rfl ⟨Nat.le_of_ble_eq_true rfl, Nat.le_of_ble_eq_true rfl⟩ (Nat.le_of_ble_eq_true rfl) (Nat.le_refl _) (Nat.le_refl _) (fun h hx => ?_)
  obtain ⟨τ1, hs1, hd1, hf⟩ := hx
  refine zr_aload_n hO (hl := rfl) (j := 0) (hi := rfl) dX3_region_4 ?_
  refine zr_iload_n hO (hl := rfl) (j := 1) (hi := rfl) dX3_region_5 ?_
  refine zr_iconst hO dX3_region_6 ?_
  refine zr_aload_n hO (hl := rfl) (j := 0) (hi := rfl) dX3_region_7 ?_
  refine zs_get hO hf 22 (x := τ1.1 22) dX3_region_8 q2992 (Nat.le_of_ble_eq_true rfl) rfl (fun ⟨r1a, r1b⟩ => ?_)
  rw [show (τ1.1 22) = (gN g : Int) from hd1.2.1.1]
  refine zr_iconst hO dX3_region_11 ?_
  refine zr_isub hO dX3_region_12 ?_
  refine zr_cSi hO zw_X3_95 (c_X3_in k 0 ((gN g : Int) - 1) (⟨by omega, by omega⟩) (⟨by omega, by omega⟩) (⟨by omega, by omega⟩)) dX3_region_13 rfl (rest := [zp r]) rfl ⟨Nat.le_of_ble_eq_true rfl, Nat.le_of_ble_eq_true rfl⟩ (Nat.le_of_ble_eq_true rfl) (Nat.le_refl _) (Nat.le_refl _) (fun x h hx => ?_)
  obtain ⟨hx, rfl⟩ := hx
  have hx : x = zB (0 ≤ k ∧ k ≤ ((gN g : Int) - 1)) := hx
  subst hx
  refine zr_iload_n hO (hl := rfl) (j := 2) (hi := rfl) dX3_region_16 ?_
  refine zr_iconst hO dX3_region_17 ?_
  refine zr_bipush hO (by decide) dX3_region_18 ?_
  refine zr_cSi hO zw_X3_95 (c_X3_in w 0 7 (⟨by omega, by omega⟩) (⟨by omega, by omega⟩) (⟨by omega, by omega⟩)) dX3_region_20 rfl (rest := [zi (zB (0 ≤ k ∧ k ≤ ((gN g : Int) - 1))), zp r]) rfl ⟨Nat.le_of_ble_eq_true rfl, Nat.le_of_ble_eq_true rfl⟩ (Nat.le_of_ble_eq_true rfl) (Nat.le_refl _) (Nat.le_refl _) (fun x h hx => ?_)
  obtain ⟨hx, rfl⟩ := hx
  have hx : x = zB (0 ≤ w ∧ w ≤ 7) := hx
  subst hx
  refine zr_cVi hO zc_X3 zw_X3_170 (c_X3_mayBoth hI hf (zB (0 ≤ k ∧ k ≤ ((gN g : Int) - 1))) (zB (0 ≤ w ∧ w ≤ 7)) (zB_01 _) (zB_01 _)) dX3_region_23 (zrd_of hf.1) rfl (rest := []) rfl ⟨Nat.le_of_ble_eq_true rfl, Nat.le_of_ble_eq_true rfl⟩ (Nat.le_of_ble_eq_true rfl) (Nat.le_refl _) (Nat.le_refl _) (fun x h hx => ?_)
  obtain ⟨hx, hf⟩ := hx
  have hx : x = zB ((zB (0 ≤ k ∧ k ≤ ((gN g : Int) - 1))) = 1 ∧ (zB (0 ≤ w ∧ w ≤ 7)) = 1) := hx
  rw [hx]
  have hf : zRf r ad (zuS τ1 0 (if (zB (0 ≤ k ∧ k ≤ ((gN g : Int) - 1))) = 0 then 1 else 2 - 2 * (zB (0 ≤ w ∧ w ≤ 7)))) h0 h := hf
  rw [show (zB ((zB (0 ≤ k ∧ k ≤ ((gN g : Int) - 1))) = 1 ∧ (zB (0 ≤ w ∧ w ≤ 7)) = 1)) = zB ((0 ≤ k ∧ k ≤ (gN g : Int) - 1) ∧ (0 ≤ w ∧ w ≤ 7)) from zB_and _ _]
  refine zr_if_ne hO (zR_B _) (tgt := 31) dX3_region_26 rfl (fun c26 => ?_) (fun c26 => ?_)
  · skip
    have c26 := zB_ne c26
    have hN := gN_le g
    have hrk := hd1.2.1.2 k.toNat (by omega)
    have hgk := g_rows hw (r := k.toNat) (by omega)
    refine zr_iload_n hO (hl := rfl) (j := 2) (hi := rfl) dX3_region_31 ?_
    have hsw : w = 0 ∨ w = 1 ∨ w = 2 ∨ w = 3 ∨ w = 4 ∨ w = 5 ∨ w = 6 ∨ w < 0 ∨ 6 < w := by omega
    rcases hsw with c32 | c32 | c32 | c32 | c32 | c32 | c32 | c32 | c32
    · refine zr_swIn hO dX3_region_32 ⟨by omega, by omega⟩ (by omega) (by omega) (off := 44) (by rw [c32]; rfl) (tgt := 76) rfl ?_
      refine zr_aload_n hO (hl := rfl) (j := 0) (hi := rfl) dX3_region_76 ?_
      refine zs_arr hO hf 14 dX3_region_77 q2984 (Nat.le_of_ble_eq_true rfl) rfl ?_
      refine zr_iload_n hO (hl := rfl) (j := 1) (hi := rfl) dX3_region_80 ?_
      refine zs_ild hO hf 14 (f := τ1.2 14) (n := 960) (j := k.toNat) dX3_region_81 rfl rfl rfl rfl (by omega) (by omega) rfl (fun ⟨r3a, r3b⟩ => ?_)
      exact zr_ireturn hO dX3_region_82 ⟨(by rw [if_pos c26, c32, gRg_0]; exact hrk.1), (zuS τ1 0 (if (zB (0 ≤ k ∧ k ≤ ((gN g : Int) - 1))) = 0 then 1 else 2 - 2 * (zB (0 ≤ w ∧ w ≤ 7)))), (rfl), (((zCo.refl σ).tr hs1).uS (k := 0) (by decide) (if (zB (0 ≤ k ∧ k ≤ ((gN g : Int) - 1))) = 0 then 1 else 2 - 2 * (zB (0 ≤ w ∧ w ≤ 7)))), hf⟩
    · refine zr_swIn hO dX3_region_32 ⟨by omega, by omega⟩ (by omega) (by omega) (off := 51) (by rw [c32]; rfl) (tgt := 83) rfl ?_
      refine zr_aload_n hO (hl := rfl) (j := 0) (hi := rfl) dX3_region_83 ?_
      refine zs_arr hO hf 15 dX3_region_84 q2985 (Nat.le_of_ble_eq_true rfl) rfl ?_
      refine zr_iload_n hO (hl := rfl) (j := 1) (hi := rfl) dX3_region_87 ?_
      refine zs_ild hO hf 15 (f := τ1.2 15) (n := 960) (j := k.toNat) dX3_region_88 rfl rfl rfl rfl (by omega) (by omega) rfl (fun ⟨r4a, r4b⟩ => ?_)
      exact zr_ireturn hO dX3_region_89 ⟨(by rw [if_pos c26, c32, gRg_1]; exact hrk.2.1), (zuS τ1 0 (if (zB (0 ≤ k ∧ k ≤ ((gN g : Int) - 1))) = 0 then 1 else 2 - 2 * (zB (0 ≤ w ∧ w ≤ 7)))), (rfl), (((zCo.refl σ).tr hs1).uS (k := 0) (by decide) (if (zB (0 ≤ k ∧ k ≤ ((gN g : Int) - 1))) = 0 then 1 else 2 - 2 * (zB (0 ≤ w ∧ w ≤ 7)))), hf⟩
    · refine zr_swIn hO dX3_region_32 ⟨by omega, by omega⟩ (by omega) (by omega) (off := 58) (by rw [c32]; rfl) (tgt := 90) rfl ?_
      refine zr_aload_n hO (hl := rfl) (j := 0) (hi := rfl) dX3_region_90 ?_
      refine zs_arr hO hf 16 dX3_region_91 q2986 (Nat.le_of_ble_eq_true rfl) rfl ?_
      refine zr_iload_n hO (hl := rfl) (j := 1) (hi := rfl) dX3_region_94 ?_
      refine zs_ild hO hf 16 (f := τ1.2 16) (n := 960) (j := k.toNat) dX3_region_95 rfl rfl rfl rfl (by omega) (by omega) rfl (fun ⟨r5a, r5b⟩ => ?_)
      exact zr_ireturn hO dX3_region_96 ⟨(by rw [if_pos c26, c32, gRg_2]; exact hrk.2.2.1), (zuS τ1 0 (if (zB (0 ≤ k ∧ k ≤ ((gN g : Int) - 1))) = 0 then 1 else 2 - 2 * (zB (0 ≤ w ∧ w ≤ 7)))), (rfl), (((zCo.refl σ).tr hs1).uS (k := 0) (by decide) (if (zB (0 ≤ k ∧ k ≤ ((gN g : Int) - 1))) = 0 then 1 else 2 - 2 * (zB (0 ≤ w ∧ w ≤ 7)))), hf⟩
    · refine zr_swIn hO dX3_region_32 ⟨by omega, by omega⟩ (by omega) (by omega) (off := 65) (by rw [c32]; rfl) (tgt := 97) rfl ?_
      refine zr_aload_n hO (hl := rfl) (j := 0) (hi := rfl) dX3_region_97 ?_
      refine zs_arr hO hf 17 dX3_region_98 q2987 (Nat.le_of_ble_eq_true rfl) rfl ?_
      refine zr_iload_n hO (hl := rfl) (j := 1) (hi := rfl) dX3_region_101 ?_
      refine zs_ild hO hf 17 (f := τ1.2 17) (n := 960) (j := k.toNat) dX3_region_102 rfl rfl rfl rfl (by omega) (by omega) rfl (fun ⟨r6a, r6b⟩ => ?_)
      exact zr_ireturn hO dX3_region_103 ⟨(by rw [if_pos c26, c32, gRg_3]; exact hrk.2.2.2.1), (zuS τ1 0 (if (zB (0 ≤ k ∧ k ≤ ((gN g : Int) - 1))) = 0 then 1 else 2 - 2 * (zB (0 ≤ w ∧ w ≤ 7)))), (rfl), (((zCo.refl σ).tr hs1).uS (k := 0) (by decide) (if (zB (0 ≤ k ∧ k ≤ ((gN g : Int) - 1))) = 0 then 1 else 2 - 2 * (zB (0 ≤ w ∧ w ≤ 7)))), hf⟩
    · refine zr_swIn hO dX3_region_32 ⟨by omega, by omega⟩ (by omega) (by omega) (off := 72) (by rw [c32]; rfl) (tgt := 104) rfl ?_
      refine zr_aload_n hO (hl := rfl) (j := 0) (hi := rfl) dX3_region_104 ?_
      refine zr_iload_n hO (hl := rfl) (j := 1) (hi := rfl) dX3_region_105 ?_
      refine zr_cVi hO zc_X3 zw_X3_215 (c_X3_isFolded hI hf ((hs1.2 1 rfl).trans hg) (zuS_2 τ1 0 (if (zB (0 ≤ k ∧ k ≤ ((gN g : Int) - 1))) = 0 then 1 else 2 - 2 * (zB (0 ≤ w ∧ w ≤ 7))) 14) k (by omega) (by omega) ((by show 1 ≤ τ1.2 14 k.toNat; rw [hrk.1]; omega)) ((by show τ1.2 14 k.toNat ≤ 80; rw [hrk.1]; omega))) dX3_region_106 (zrd_of hf.1) rfl (rest := []) rfl ⟨Nat.le_of_ble_eq_true rfl, Nat.le_of_ble_eq_true rfl⟩ (Nat.le_of_ble_eq_true rfl) (Nat.le_refl _) (Nat.le_refl _) (fun x h hx => ?_)
      obtain ⟨hx, hf⟩ := hx
      have hx : x = zB (gcl g ((τ1.2 14) k.toNat) = 1) := hx
      subst hx
      rw [show (zB (gcl g ((τ1.2 14) k.toNat) = 1)) = zB (gcl g (gF g k.toNat) = 1) from (by rw [hrk.1])]
      refine zr_if_eq hO (zR_B _) (tgt := 116) dX3_region_109 rfl (fun c109 => ?_) (fun c109 => ?_)
      · skip
        have c109 := zB_eq c109
        refine zr_iconst hO dX3_region_116 ?_
        exact zr_ireturn hO dX3_region_117 ⟨(by rw [if_pos c26, c32, gRg_4, zB_f (by omega)]), (zuS τ1 0 (if (zB (0 ≤ k ∧ k ≤ ((gN g : Int) - 1))) = 0 then 1 else 2 - 2 * (zB (0 ≤ w ∧ w ≤ 7)))), (rfl), (((zCo.refl σ).tr hs1).uS (k := 0) (by decide) (if (zB (0 ≤ k ∧ k ≤ ((gN g : Int) - 1))) = 0 then 1 else 2 - 2 * (zB (0 ≤ w ∧ w ≤ 7)))), hf⟩
      · skip
        have c109 := zB_ne c109
        refine zr_iconst hO dX3_region_112 ?_
        refine zr_goto hO (tgt := 117) dX3_region_113 rfl ?_
        exact zr_ireturn hO dX3_region_117 ⟨(by rw [if_pos c26, c32, gRg_4, zB_t (by omega)]), (zuS τ1 0 (if (zB (0 ≤ k ∧ k ≤ ((gN g : Int) - 1))) = 0 then 1 else 2 - 2 * (zB (0 ≤ w ∧ w ≤ 7)))), (rfl), (((zCo.refl σ).tr hs1).uS (k := 0) (by decide) (if (zB (0 ≤ k ∧ k ≤ ((gN g : Int) - 1))) = 0 then 1 else 2 - 2 * (zB (0 ≤ w ∧ w ≤ 7)))), hf⟩
    · refine zr_swIn hO dX3_region_32 ⟨by omega, by omega⟩ (by omega) (by omega) (off := 86) (by rw [c32]; rfl) (tgt := 118) rfl ?_
      refine zr_aload_n hO (hl := rfl) (j := 0) (hi := rfl) dX3_region_118 ?_
      refine zs_arr hO hf 18 dX3_region_119 q2988 (Nat.le_of_ble_eq_true rfl) rfl ?_
      refine zr_iload_n hO (hl := rfl) (j := 1) (hi := rfl) dX3_region_122 ?_
      refine zs_ild hO hf 18 (f := τ1.2 18) (n := 960) (j := k.toNat) dX3_region_123 rfl rfl rfl rfl (by omega) (by omega) rfl (fun ⟨r8a, r8b⟩ => ?_)
      exact zr_ireturn hO dX3_region_124 ⟨(by rw [if_pos c26, c32, gRg_5]; exact hrk.2.2.2.2.1), (zuS τ1 0 (if (zB (0 ≤ k ∧ k ≤ ((gN g : Int) - 1))) = 0 then 1 else 2 - 2 * (zB (0 ≤ w ∧ w ≤ 7)))), (rfl), (((zCo.refl σ).tr hs1).uS (k := 0) (by decide) (if (zB (0 ≤ k ∧ k ≤ ((gN g : Int) - 1))) = 0 then 1 else 2 - 2 * (zB (0 ≤ w ∧ w ≤ 7)))), hf⟩
    · refine zr_swIn hO dX3_region_32 ⟨by omega, by omega⟩ (by omega) (by omega) (off := 93) (by rw [c32]; rfl) (tgt := 125) rfl ?_
      refine zr_aload_n hO (hl := rfl) (j := 0) (hi := rfl) dX3_region_125 ?_
      refine zs_arr hO hf 15 dX3_region_126 q2985 (Nat.le_of_ble_eq_true rfl) rfl ?_
      refine zr_iload_n hO (hl := rfl) (j := 1) (hi := rfl) dX3_region_129 ?_
      refine zs_ild hO hf 15 (f := τ1.2 15) (n := 960) (j := k.toNat) dX3_region_130 rfl rfl rfl rfl (by omega) (by omega) rfl (fun ⟨r9a, r9b⟩ => ?_)
      refine zr_aload_n hO (hl := rfl) (j := 0) (hi := rfl) dX3_region_131 ?_
      refine zs_arr hO hf 14 dX3_region_132 q2984 (Nat.le_of_ble_eq_true rfl) rfl ?_
      refine zr_iload_n hO (hl := rfl) (j := 1) (hi := rfl) dX3_region_135 ?_
      refine zs_ild hO hf 14 (f := τ1.2 14) (n := 960) (j := k.toNat) dX3_region_136 rfl rfl rfl rfl (by omega) (by omega) rfl (fun ⟨r10a, r10b⟩ => ?_)
      refine zr_isub hO dX3_region_137 ?_
      refine zr_iconst hO dX3_region_138 ?_
      refine zr_isub hO dX3_region_139 ?_
      exact zr_ireturn hO dX3_region_140 ⟨(by rw [if_pos c26, c32, gRg_6, hrk.1, hrk.2.1]), (zuS τ1 0 (if (zB (0 ≤ k ∧ k ≤ ((gN g : Int) - 1))) = 0 then 1 else 2 - 2 * (zB (0 ≤ w ∧ w ≤ 7)))), (rfl), (((zCo.refl σ).tr hs1).uS (k := 0) (by decide) (if (zB (0 ≤ k ∧ k ≤ ((gN g : Int) - 1))) = 0 then 1 else 2 - 2 * (zB (0 ≤ w ∧ w ≤ 7)))), hf⟩
    · refine zr_swOut hO dX3_region_32 ⟨by omega, by omega⟩ (Or.inl c32) (tgt := 141) rfl ?_
      refine zr_aload_n hO (hl := rfl) (j := 0) (hi := rfl) dX3_region_141 ?_
      refine zs_arr hO hf 19 dX3_region_142 q2989 (Nat.le_of_ble_eq_true rfl) rfl ?_
      refine zr_iload_n hO (hl := rfl) (j := 1) (hi := rfl) dX3_region_145 ?_
      refine zs_ild hO hf 19 (f := τ1.2 19) (n := 960) (j := k.toNat) dX3_region_146 rfl rfl rfl rfl (by omega) (by omega) rfl (fun ⟨r11a, r11b⟩ => ?_)
      exact zr_ireturn hO dX3_region_147 ⟨(by rw [if_pos c26, gRg_7 g (by omega)]; exact hrk.2.2.2.2.2), (zuS τ1 0 (if (zB (0 ≤ k ∧ k ≤ ((gN g : Int) - 1))) = 0 then 1 else 2 - 2 * (zB (0 ≤ w ∧ w ≤ 7)))), (rfl), (((zCo.refl σ).tr hs1).uS (k := 0) (by decide) (if (zB (0 ≤ k ∧ k ≤ ((gN g : Int) - 1))) = 0 then 1 else 2 - 2 * (zB (0 ≤ w ∧ w ≤ 7)))), hf⟩
    · refine zr_swOut hO dX3_region_32 ⟨by omega, by omega⟩ (Or.inr c32) (tgt := 141) rfl ?_
      refine zr_aload_n hO (hl := rfl) (j := 0) (hi := rfl) dX3_region_141 ?_
      refine zs_arr hO hf 19 dX3_region_142 q2989 (Nat.le_of_ble_eq_true rfl) rfl ?_
      refine zr_iload_n hO (hl := rfl) (j := 1) (hi := rfl) dX3_region_145 ?_
      refine zs_ild hO hf 19 (f := τ1.2 19) (n := 960) (j := k.toNat) dX3_region_146 rfl rfl rfl rfl (by omega) (by omega) rfl (fun ⟨r12a, r12b⟩ => ?_)
      exact zr_ireturn hO dX3_region_147 ⟨(by rw [if_pos c26, gRg_7 g (by omega)]; exact hrk.2.2.2.2.2), (zuS τ1 0 (if (zB (0 ≤ k ∧ k ≤ ((gN g : Int) - 1))) = 0 then 1 else 2 - 2 * (zB (0 ≤ w ∧ w ≤ 7)))), (rfl), (((zCo.refl σ).tr hs1).uS (k := 0) (by decide) (if (zB (0 ≤ k ∧ k ≤ ((gN g : Int) - 1))) = 0 then 1 else 2 - 2 * (zB (0 ≤ w ∧ w ≤ 7)))), hf⟩
  · skip
    have c26 := zB_eq c26
    refine zr_iconst hO dX3_region_29 ?_
    exact zr_ireturn hO dX3_region_30 ⟨(by rw [if_neg c26]), (zuS τ1 0 (if (zB (0 ≤ k ∧ k ≤ ((gN g : Int) - 1))) = 0 then 1 else 2 - 2 * (zB (0 ≤ w ∧ w ≤ 7)))), (rfl), (((zCo.refl σ).tr hs1).uS (k := 0) (by decide) (if (zB (0 ≤ k ∧ k ≤ ((gN g : Int) - 1))) = 0 then 1 else 2 - 2 * (zB (0 ≤ w ∧ w ≤ 7)))), hf⟩
theorem c_X3_markersOn {G : zG} {r : Nat} {ad : Nat → Nat} {h0 : zHp} (hI : zRI r ad) {σ : zS} {h : zHp} (hf : zRf r ad σ h0 h) {g : Nat → Int} (hg : σ.2 1 = g) (n : Int) (h1 : 1 ≤ n) (h2 : n ≤ 80) : zC G yX3_markersOn cX3_markersOn 4 (some Jvm.ClassFile.FieldType.int) 2 42 0 0 [zp r, zi n] h (zPi (fun x h' => x = gmo g (gky g n) ∧ zRf r ad σ h0 h') zNo) := by
  refine zC.of zpn_X3 (Nat.le_of_ble_eq_true rfl) (L := [(0, zp r), (1, zi n)]) rfl (fun K hO => ?_)
  refine zr_iconst hO dX3_markersOn_0 ?_
  refine zr_istore_n hO (L' := [(2, zi 0), (0, zp r), (1, zi n)]) (hi := rfl) dX3_markersOn_1 (Nat.le_of_ble_eq_true rfl) rfl ?_
  refine zr_iconst hO dX3_markersOn_2 ?_
  refine zr_istore_n hO (L' := [(3, zi 0), (2, zi 0), (0, zp r), (1, zi n)]) (hi := rfl) dX3_markersOn_3 (Nat.le_of_ble_eq_true rfl) rfl ?_
  have hl4 : ∀ (n9 : Nat) (k a : Int), (10 - k).toNat = n9 → ∀ (i1 : 0 ≤ k) (i2 : k ≤ 10) (i3 : a = zfo (gmoF g (gky g n)) 0 k.toNat) (h : zHp) (hf : zRf r ad σ h0 h), zV G K 0 0 h 4 [(0, zp r), (1, zi n), (2, zi a), (3, zi k)] [] := by
    intro n9
    induction n9 using Nat.strongRecOn with
    | _ n9 ih4 =>
    intro k a hn4 i1 i2 i3 h hf
    refine zr_iload_n hO (hl := rfl) (j := 3) (hi := rfl) dX3_markersOn_4 ?_
    refine zr_bipush hO (by decide) dX3_markersOn_5 ?_
    refine zr_icmp_ge hO ⟨by omega, by omega⟩ ⟨by omega, by omega⟩ (tgt := 43) dX3_markersOn_7 rfl (fun c7 => ?_) (fun c7 => ?_)
    · skip
      refine zr_iload_n hO (hl := rfl) (j := 2) (hi := rfl) dX3_markersOn_43 ?_
      exact zr_ireturn hO dX3_markersOn_44 ⟨(by rw [i3, show k = 10 by omega]; rfl), hf⟩
    · skip
      refine zr_iload_n hO (hl := rfl) (j := 2) (hi := rfl) dX3_markersOn_10 ?_
      refine zr_aload_n hO (hl := rfl) (j := 0) (hi := rfl) dX3_markersOn_11 ?_
      refine zs_arr hO hf 1 dX3_markersOn_12 q2971 (Nat.le_of_ble_eq_true rfl) rfl ?_
      refine zr_iconst hO dX3_markersOn_15 ?_
      refine zr_iload_n hO (hl := rfl) (j := 3) (hi := rfl) dX3_markersOn_16 ?_
      refine zr_iadd hO dX3_markersOn_17 ?_
      refine zs_ild hO hf 1 (f := g) (n := 2195) (j := (5 + k).toNat) dX3_markersOn_18 rfl rfl rfl hg (by omega) (by omega) rfl (fun ⟨r1a, r1b⟩ => ?_)
      refine zr_aload_n hO (hl := rfl) (j := 0) (hi := rfl) dX3_markersOn_19 ?_
      refine zr_iload_n hO (hl := rfl) (j := 1) (hi := rfl) dX3_markersOn_20 ?_
      refine zr_iconst hO dX3_markersOn_21 ?_
      refine zr_cVi hO zc_X3 zw_X3_129 (c_X3_of hI hf hg n 0 (by omega) (by omega)) dX3_markersOn_22 (zrd_of hf.1) rfl (rest := [zi (g ((5 + k).toNat)), zi a]) rfl ⟨Nat.le_of_ble_eq_true rfl, Nat.le_of_ble_eq_true rfl⟩ (Nat.le_of_ble_eq_true rfl) (Nat.le_refl _) (Nat.le_refl _) (fun x h hx => ?_)
      obtain ⟨hx, ⟨r2a, r2b⟩, hf⟩ := hx
      have hx : x = gky g n := hx
      subst hx
      refine zr_icmp_ne hO ⟨by omega, by omega⟩ ⟨by omega, by omega⟩ (tgt := 34) dX3_markersOn_25 rfl (fun c25 => ?_) (fun c25 => ?_)
      · skip
        refine zr_iconst hO dX3_markersOn_34 ?_
        refine zr_ior hO (x := (zI a ||| zI (0)).toInt) (zI_tI _) dX3_markersOn_35 ?_
        refine zr_istore_n hO (L' := [(2, zi ((zI a ||| zI (0)).toInt)), (0, zp r), (1, zi n), (3, zi k)]) (hi := rfl) dX3_markersOn_36 (Nat.le_of_ble_eq_true rfl) rfl ?_
        refine zr_iinc hO (L' := [(3, zi (k + 1)), (2, zi ((zI a ||| zI (0)).toInt)), (0, zp r), (1, zi n)]) (j := 3) dX3_markersOn_37 rfl (Nat.le_of_ble_eq_true rfl) rfl ?_
        refine zr_goto hO (tgt := 4) dX3_markersOn_40 rfl ?_
        refine zV.loc [2, 3, 1, 0] rfl ?_
        exact ih4 _ (by omega) (k + 1) ((zI a ||| zI (0)).toInt) rfl (by omega) (by omega) (by rw [gmo_s g _ i1, ← i3]; rw [if_neg (by rw [show 5 + k.toNat = (5 + k).toNat by omega]; exact c25)]) h hf
      · skip
        refine zr_iconst hO dX3_markersOn_28 ?_
        refine zr_iload_n hO (hl := rfl) (j := 3) (hi := rfl) dX3_markersOn_29 ?_
        refine zr_ishl hO (x := (zI 1 <<< (zI k &&& 31)).toInt) (zI_tI _) dX3_markersOn_30 ?_
        refine zr_goto hO (tgt := 35) dX3_markersOn_31 rfl ?_
        refine zr_ior hO (x := (zI a ||| zI ((zI 1 <<< (zI k &&& 31)).toInt)).toInt) (zI_tI _) dX3_markersOn_35 ?_
        refine zr_istore_n hO (L' := [(2, zi ((zI a ||| zI ((zI 1 <<< (zI k &&& 31)).toInt)).toInt)), (0, zp r), (1, zi n), (3, zi k)]) (hi := rfl) dX3_markersOn_36 (Nat.le_of_ble_eq_true rfl) rfl ?_
        refine zr_iinc hO (L' := [(3, zi (k + 1)), (2, zi ((zI a ||| zI ((zI 1 <<< (zI k &&& 31)).toInt)).toInt)), (0, zp r), (1, zi n)]) (j := 3) dX3_markersOn_37 rfl (Nat.le_of_ble_eq_true rfl) rfl ?_
        refine zr_goto hO (tgt := 4) dX3_markersOn_40 rfl ?_
        refine zV.loc [2, 3, 1, 0] rfl ?_
        exact ih4 _ (by omega) (k + 1) ((zI a ||| zI ((zI 1 <<< (zI k &&& 31)).toInt)).toInt) rfl (by omega) (by omega) (by rw [gmo_s g _ i1, ← i3]; rw [if_pos (by rw [show 5 + k.toNat = (5 + k).toNat by omega]; exact c25)]) h hf
  refine zV.loc [2, 3, 1, 0] rfl ?_
  exact hl4 _ 0 0 rfl (by omega) (by omega) (rfl) h hf
theorem c_X3_foldedMany {G : zG} {r : Nat} {ad : Nat → Nat} {h0 : zHp} (hI : zRI r ad) {σ : zS} {h : zHp} (hf : zRf r ad σ h0 h) {g : Nat → Int} (hg : σ.2 1 = g) (hw : zwf g) (hr : zRt g σ) : zC G yX3_foldedMany cX3_foldedMany 3 (some Jvm.ClassFile.FieldType.int) 3 63 0 0 [zp r] h (zPi (fun x h' => x = gfm g ∧ zRf r ad σ h0 h') zNo) := by
  refine zC.of zpn_X3 (Nat.le_of_ble_eq_true rfl) (L := [(0, zp r)]) rfl (fun K hO => ?_)
  obtain ⟨w1, w2, w3⟩ := id hw
  have hN := gN_le g
  refine zr_iconst hO dX3_foldedMany_0 ?_
  refine zr_istore_n hO (L' := [(1, zi 0), (0, zp r)]) (hi := rfl) dX3_foldedMany_1 (Nat.le_of_ble_eq_true rfl) rfl ?_
  refine zr_iconst hO dX3_foldedMany_2 ?_
  refine zr_istore_n hO (L' := [(2, zi 0), (1, zi 0), (0, zp r)]) (hi := rfl) dX3_foldedMany_3 (Nat.le_of_ble_eq_true rfl) rfl ?_
  have hl4 : ∀ (n9 : Nat) (k a : Int), ((gN g : Int) - k).toNat = n9 → ∀ (i1 : 0 ≤ k) (i2 : k ≤ gN g) (i3 : a = zs0 (fun k => zB (gcl g (gF g k) = 1)) k.toNat) (h : zHp) (hf : zRf r ad σ h0 h), zV G K 0 0 h 4 [(0, zp r), (1, zi a), (2, zi k)] [] := by
    intro n9
    induction n9 using Nat.strongRecOn with
    | _ n9 ih4 =>
    intro k a hn4 i1 i2 i3 h hf
    refine zr_iload_n hO (hl := rfl) (j := 2) (hi := rfl) dX3_foldedMany_4 ?_
    refine zr_aload_n hO (hl := rfl) (j := 0) (hi := rfl) dX3_foldedMany_5 ?_
    refine zs_get hO hf 22 (x := σ.1 22) dX3_foldedMany_6 q2992 (Nat.le_of_ble_eq_true rfl) rfl (fun ⟨r1a, r1b⟩ => ?_)
    rw [show (σ.1 22) = (gN g : Int) from hr.1]
    refine zr_icmp_ge hO ⟨by omega, by omega⟩ ⟨by omega, by omega⟩ (tgt := 34) dX3_foldedMany_9 rfl (fun c9 => ?_) (fun c9 => ?_)
    · skip
      refine zr_iload_n hO (hl := rfl) (j := 1) (hi := rfl) dX3_foldedMany_34 ?_
      exact zr_ireturn hO dX3_foldedMany_35 ⟨(by rw [i3, show k = gN g by omega, Int.toNat_natCast]; rfl), hf⟩
    · skip
      have hrk := hr.2 k.toNat (by omega)
      have hgk := g_rows hw (r := k.toNat) (by omega)
      refine zr_iload_n hO (hl := rfl) (j := 1) (hi := rfl) dX3_foldedMany_12 ?_
      refine zr_aload_n hO (hl := rfl) (j := 0) (hi := rfl) dX3_foldedMany_13 ?_
      refine zr_iload_n hO (hl := rfl) (j := 2) (hi := rfl) dX3_foldedMany_14 ?_
      refine zr_cVi hO zc_X3 zw_X3_215 (c_X3_isFolded hI hf hg (rfl : σ.2 14 = (σ.2 14)) k (by omega) (by omega) ((by rw [hrk.1]; omega)) ((by rw [hrk.1]; omega))) dX3_foldedMany_15 (zrd_of hf.1) rfl (rest := [zi a]) rfl ⟨Nat.le_of_ble_eq_true rfl, Nat.le_of_ble_eq_true rfl⟩ (Nat.le_of_ble_eq_true rfl) (Nat.le_refl _) (Nat.le_refl _) (fun x h hx => ?_)
      obtain ⟨hx, hf⟩ := hx
      have hx : x = zB (gcl g (((σ.2 14)) k.toNat) = 1) := hx
      subst hx
      rw [show (zB (gcl g (((σ.2 14)) k.toNat) = 1)) = zB (gcl g (gF g k.toNat) = 1) from (by rw [hrk.1])]
      refine zr_if_eq hO (zR_B _) (tgt := 25) dX3_foldedMany_18 rfl (fun c18 => ?_) (fun c18 => ?_)
      · skip
        have c18 := zB_eq c18
        refine zr_iconst hO dX3_foldedMany_25 ?_
        refine zr_iadd hO dX3_foldedMany_26 ?_
        refine zr_istore_n hO (L' := [(1, zi (a + 0)), (0, zp r), (2, zi k)]) (hi := rfl) dX3_foldedMany_27 (Nat.le_of_ble_eq_true rfl) rfl ?_
        refine zr_iinc hO (L' := [(2, zi (k + 1)), (1, zi (a + 0)), (0, zp r)]) (j := 2) dX3_foldedMany_28 rfl (Nat.le_of_ble_eq_true rfl) rfl ?_
        refine zr_goto hO (tgt := 4) dX3_foldedMany_31 rfl ?_
        refine zV.loc [2, 1, 0] rfl ?_
        exact ih4 _ (by omega) (k + 1) (a + 0) rfl (by omega) (by omega) (by rw [zs0_s _ i1, ← i3, zB_f c18]) h hf
      · skip
        have c18 := zB_ne c18
        refine zr_iconst hO dX3_foldedMany_21 ?_
        refine zr_goto hO (tgt := 26) dX3_foldedMany_22 rfl ?_
        refine zr_iadd hO dX3_foldedMany_26 ?_
        refine zr_istore_n hO (L' := [(1, zi (a + 1)), (0, zp r), (2, zi k)]) (hi := rfl) dX3_foldedMany_27 (Nat.le_of_ble_eq_true rfl) rfl ?_
        refine zr_iinc hO (L' := [(2, zi (k + 1)), (1, zi (a + 1)), (0, zp r)]) (j := 2) dX3_foldedMany_28 rfl (Nat.le_of_ble_eq_true rfl) rfl ?_
        refine zr_goto hO (tgt := 4) dX3_foldedMany_31 rfl ?_
        refine zV.loc [2, 1, 0] rfl ?_
        exact ih4 _ (by omega) (k + 1) (a + 1) rfl (by omega) (by omega) (by rw [zs0_s _ i1, ← i3, zB_t c18]) h hf
  refine zV.loc [2, 1, 0] rfl ?_
  exact hl4 _ 0 0 rfl (by omega) (by omega) (rfl) h hf
theorem c_X3_markersOnMany {G : zG} {r : Nat} {ad : Nat → Nat} {h0 : zHp} (hI : zRI r ad) {σ : zS} {h : zHp} (hf : zRf r ad σ h0 h) {g : Nat → Int} (hg : σ.2 1 = g) : zC G yX3_markersOnMany cX3_markersOnMany 3 (some Jvm.ClassFile.FieldType.int) 0 0 0 0 [zp r] h (zPi (fun x h' => x = gmm9 g ∧ zRf r ad σ h0 h') zNo) := by
  refine zC.of zpn_X3 (Nat.le_of_ble_eq_true rfl) (L := [(0, zp r)]) rfl (fun K hO => ?_)
  refine zr_iconst hO dX3_markersOnMany_0 ?_
  refine zr_istore_n hO (L' := [(1, zi 0), (0, zp r)]) (hi := rfl) dX3_markersOnMany_1 (Nat.le_of_ble_eq_true rfl) rfl ?_
  refine zr_iconst hO dX3_markersOnMany_2 ?_
  refine zr_istore_n hO (L' := [(2, zi 0), (1, zi 0), (0, zp r)]) (hi := rfl) dX3_markersOnMany_3 (Nat.le_of_ble_eq_true rfl) rfl ?_
  have hl4 : ∀ (n9 : Nat) (k a : Int), (10 - k).toNat = n9 → ∀ (i1 : 0 ≤ k) (i2 : k ≤ 10) (i3 : a = zs0 (fun m => zB (g (5 + m) ≠ -1)) k.toNat) (h : zHp) (hf : zRf r ad σ h0 h), zV G K 0 0 h 4 [(0, zp r), (1, zi a), (2, zi k)] [] := by
    intro n9
    induction n9 using Nat.strongRecOn with
    | _ n9 ih4 =>
    intro k a hn4 i1 i2 i3 h hf
    refine zr_iload_n hO (hl := rfl) (j := 2) (hi := rfl) dX3_markersOnMany_4 ?_
    refine zr_bipush hO (by decide) dX3_markersOnMany_5 ?_
    refine zr_icmp_ge hO ⟨by omega, by omega⟩ ⟨by omega, by omega⟩ (tgt := 36) dX3_markersOnMany_7 rfl (fun c7 => ?_) (fun c7 => ?_)
    · skip
      refine zr_iload_n hO (hl := rfl) (j := 1) (hi := rfl) dX3_markersOnMany_36 ?_
      exact zr_ireturn hO dX3_markersOnMany_37 ⟨(by rw [i3, show k = 10 by omega]; rfl), hf⟩
    · skip
      refine zr_iload_n hO (hl := rfl) (j := 1) (hi := rfl) dX3_markersOnMany_10 ?_
      refine zr_aload_n hO (hl := rfl) (j := 0) (hi := rfl) dX3_markersOnMany_11 ?_
      refine zs_arr hO hf 1 dX3_markersOnMany_12 q2971 (Nat.le_of_ble_eq_true rfl) rfl ?_
      refine zr_iconst hO dX3_markersOnMany_15 ?_
      refine zr_iload_n hO (hl := rfl) (j := 2) (hi := rfl) dX3_markersOnMany_16 ?_
      refine zr_iadd hO dX3_markersOnMany_17 ?_
      refine zs_ild hO hf 1 (f := g) (n := 2195) (j := (5 + k).toNat) dX3_markersOnMany_18 rfl rfl rfl hg (by omega) (by omega) rfl (fun ⟨r1a, r1b⟩ => ?_)
      refine zr_iconst hO dX3_markersOnMany_19 ?_
      refine zr_icmp_ne hO ⟨by omega, by omega⟩ ⟨by omega, by omega⟩ (tgt := 27) dX3_markersOnMany_20 rfl (fun c20 => ?_) (fun c20 => ?_)
      · skip
        refine zr_iconst hO dX3_markersOnMany_27 ?_
        refine zr_iadd hO dX3_markersOnMany_28 ?_
        refine zr_istore_n hO (L' := [(1, zi (a + 1)), (0, zp r), (2, zi k)]) (hi := rfl) dX3_markersOnMany_29 (Nat.le_of_ble_eq_true rfl) rfl ?_
        refine zr_iinc hO (L' := [(2, zi (k + 1)), (1, zi (a + 1)), (0, zp r)]) (j := 2) dX3_markersOnMany_30 rfl (Nat.le_of_ble_eq_true rfl) rfl ?_
        refine zr_goto hO (tgt := 4) dX3_markersOnMany_33 rfl ?_
        refine zV.loc [2, 1, 0] rfl ?_
        exact ih4 _ (by omega) (k + 1) (a + 1) rfl (by omega) (by omega) (by rw [zs0_s _ i1, ← i3, zB_t (by rw [show 5 + k.toNat = (5 + k).toNat by omega]; exact c20)]) h hf
      · skip
        refine zr_iconst hO dX3_markersOnMany_23 ?_
        refine zr_goto hO (tgt := 28) dX3_markersOnMany_24 rfl ?_
        refine zr_iadd hO dX3_markersOnMany_28 ?_
        refine zr_istore_n hO (L' := [(1, zi (a + 0)), (0, zp r), (2, zi k)]) (hi := rfl) dX3_markersOnMany_29 (Nat.le_of_ble_eq_true rfl) rfl ?_
        refine zr_iinc hO (L' := [(2, zi (k + 1)), (1, zi (a + 0)), (0, zp r)]) (j := 2) dX3_markersOnMany_30 rfl (Nat.le_of_ble_eq_true rfl) rfl ?_
        refine zr_goto hO (tgt := 4) dX3_markersOnMany_33 rfl ?_
        refine zV.loc [2, 1, 0] rfl ?_
        exact ih4 _ (by omega) (k + 1) (a + 0) rfl (by omega) (by omega) (by rw [zs0_s _ i1, ← i3, zB_f (by rw [show 5 + k.toNat = (5 + k).toNat by omega]; exact fun q => q c20)]) h hf
  refine zV.loc [2, 1, 0] rfl ?_
  exact hl4 _ 0 0 rfl (by omega) (by omega) (rfl) h hf
theorem zw_X3_189 : zYw RX3 RX3 189 yX3_blanks cX3_blanks 3 (some Jvm.ClassFile.FieldType.int) 1 := ⟨q3181, q3183, qs64, q116, q3184, rfl, ⟨by decide +kernel, by decide +kernel, by decide +kernel⟩⟩
theorem zw_X3_248 : zYs RX3 248 yX3_isLetter cX3_isLetter 1 (some Jvm.ClassFile.FieldType.boolean) 1 := ⟨q3267, q3268, q116, q3269, ⟨by decide +kernel, by decide +kernel, by decide +kernel⟩⟩
theorem c_X3_labelOf {G : zG} {r : Nat} {ad : Nat → Nat} {h0 : zHp} (hI : zRI r ad) {σ : zS} {h : zHp} (hf : zRf r ad σ h0 h) {g : Nat → Int} (hg : σ.2 1 = g) (n : Int) (h1 : 1 ≤ n) (h2 : n ≤ 80) (h3 : 0 ≤ gln g n) (h4 : gln g n ≤ 24) : zC G yX3_labelOf cX3_labelOf 4 (some Jvm.ClassFile.FieldType.int) 4 86 0 0 [zp r, zi n] h (zPi (fun x h' => x = glb g n ∧ zRf r ad σ h0 h') zNo) := by
  refine zC.of zpn_X3 (Nat.le_of_ble_eq_true rfl) (L := [(0, zp r), (1, zi n)]) rfl (fun K hO => ?_)
  have gbi := gbl_in g n h3
  refine zr_aload_n hO (hl := rfl) (j := 0) (hi := rfl) dX3_labelOf_0 ?_
  refine zr_iload_n hO (hl := rfl) (j := 1) (hi := rfl) dX3_labelOf_1 ?_
  refine zr_cVi hO zc_X3 zw_X3_189 (c_X3_blanks hI hf hg n (by omega) (by omega) (by omega) (by omega)) dX3_labelOf_2 (zrd_of hf.1) rfl (rest := []) rfl ⟨Nat.le_of_ble_eq_true rfl, Nat.le_of_ble_eq_true rfl⟩ (Nat.le_of_ble_eq_true rfl) (Nat.le_refl _) (Nat.le_refl _) (fun x h hx => ?_)
  obtain ⟨hx, ⟨r1a, r1b⟩, hf⟩ := hx
  have hx : x = gbl g n := hx
  subst hx
  refine zr_istore_n hO (L' := [(2, zi (gbl g n)), (0, zp r), (1, zi n)]) (hi := rfl) dX3_labelOf_5 (Nat.le_of_ble_eq_true rfl) rfl ?_
  refine zr_iload_n hO (hl := rfl) (j := 0) (hi := rfl) dX3_labelOf_6 ?_
  refine zr_istore_n hO (L' := [(3, zi (gbl g n)), (2, zi (gbl g n)), (0, zp r), (1, zi n)]) (hi := rfl) dX3_labelOf_7 (Nat.le_of_ble_eq_true rfl) rfl ?_
  have hl8 : ∀ (n9 : Nat) (j : Int), (gln g n - j).toNat = n9 → ∀ (i1 : gbl g n ≤ j) (i2 : j ≤ gln g n) (i3 : ∀ m, gbl g n ≤ m → m < j → 97 ≤ gch g n m ∧ gch g n m ≤ 122) (h : zHp) (hf : zRf r ad σ h0 h), zV G K 0 0 h 8 [(0, zp r), (1, zi n), (2, zi (gbl g n)), (3, zi j)] [] := by
    intro n9
    induction n9 using Nat.strongRecOn with
    | _ n9 ih8 =>
    intro j hn8 i1 i2 i3 h hf
    refine zr_iload_n hO (hl := rfl) (j := 3) (hi := rfl) dX3_labelOf_8 ?_
    refine zr_aload_n hO (hl := rfl) (j := 0) (hi := rfl) dX3_labelOf_9 ?_
    refine zr_iload_n hO (hl := rfl) (j := 1) (hi := rfl) dX3_labelOf_10 ?_
    refine zr_cVi hO zc_X3 zw_X3_139 (c_X3_length hI hf hg n (by omega) (by omega)) dX3_labelOf_11 (zrd_of hf.1) rfl (rest := [zi j]) rfl ⟨Nat.le_of_ble_eq_true rfl, Nat.le_of_ble_eq_true rfl⟩ (Nat.le_of_ble_eq_true rfl) (Nat.le_refl _) (Nat.le_refl _) (fun x h hx => ?_)
    obtain ⟨hx, ⟨r2a, r2b⟩, hf⟩ := hx
    have hx : x = gln g n := hx
    subst hx
    refine zr_icmp_ge hO ⟨by omega, by omega⟩ ⟨by omega, by omega⟩ (tgt := 35) dX3_labelOf_14 rfl (fun c14 => ?_) (fun c14 => ?_)
    · skip
      have hgr := glr_eq i1 i2 i3 (by omega)
      refine zr_iload_n hO (hl := rfl) (j := 3) (hi := rfl) dX3_labelOf_35 ?_
      refine zr_aload_n hO (hl := rfl) (j := 0) (hi := rfl) dX3_labelOf_36 ?_
      refine zr_iload_n hO (hl := rfl) (j := 1) (hi := rfl) dX3_labelOf_37 ?_
      refine zr_cVi hO zc_X3 zw_X3_139 (c_X3_length hI hf hg n (by omega) (by omega)) dX3_labelOf_38 (zrd_of hf.1) rfl (rest := [zi j]) rfl ⟨Nat.le_of_ble_eq_true rfl, Nat.le_of_ble_eq_true rfl⟩ (Nat.le_of_ble_eq_true rfl) (Nat.le_refl _) (Nat.le_refl _) (fun x h hx => ?_)
      obtain ⟨hx, ⟨r3a, r3b⟩, hf⟩ := hx
      have hx : x = gln g n := hx
      subst hx
      refine zr_icmp_ge hO ⟨by omega, by omega⟩ ⟨by omega, by omega⟩ (tgt := 73) dX3_labelOf_41 rfl (fun c41 => ?_) (fun c41 => ?_)
      · skip
        refine zr_iconst hO dX3_labelOf_73 ?_
        exact zr_ireturn hO dX3_labelOf_74 ⟨(by rw [glb_eq hgr, if_neg (by omega)]), hf⟩
      · skip
        refine zr_aload_n hO (hl := rfl) (j := 0) (hi := rfl) dX3_labelOf_44 ?_
        refine zr_iload_n hO (hl := rfl) (j := 1) (hi := rfl) dX3_labelOf_45 ?_
        refine zr_iload_n hO (hl := rfl) (j := 3) (hi := rfl) dX3_labelOf_46 ?_
        refine zr_cVi hO zc_X3 zw_X3_133 (c_X3_byteAt hI hf hg n j (by omega) (by omega) (by omega) (by omega)) dX3_labelOf_47 (zrd_of hf.1) rfl (rest := []) rfl ⟨Nat.le_of_ble_eq_true rfl, Nat.le_of_ble_eq_true rfl⟩ (Nat.le_of_ble_eq_true rfl) (Nat.le_refl _) (Nat.le_refl _) (fun x h hx => ?_)
        obtain ⟨hx, ⟨r4a, r4b⟩, hf⟩ := hx
        have hx : x = gch g n j := hx
        subst hx
        refine zr_bipush hO (by decide) dX3_labelOf_50 ?_
        refine zr_icmp_ne hO ⟨by omega, by omega⟩ ⟨by omega, by omega⟩ (tgt := 73) dX3_labelOf_52 rfl (fun c52 => ?_) (fun c52 => ?_)
        · skip
          refine zr_iconst hO dX3_labelOf_73 ?_
          exact zr_ireturn hO dX3_labelOf_74 ⟨(by rw [glb_eq hgr, if_neg (by omega)]), hf⟩
        · skip
          refine zr_iload_n hO (hl := rfl) (j := 3) (hi := rfl) dX3_labelOf_55 ?_
          refine zr_iload_n hO (hl := rfl) (j := 2) (hi := rfl) dX3_labelOf_56 ?_
          refine zr_isub hO dX3_labelOf_57 ?_
          refine zr_iconst hO dX3_labelOf_58 ?_
          refine zr_bipush hO (by decide) dX3_labelOf_59 ?_
          refine zr_cSi hO zw_X3_95 (c_X3_in (j - (gbl g n)) 1 8 (⟨by omega, by omega⟩) (⟨by omega, by omega⟩) (⟨by omega, by omega⟩)) dX3_labelOf_61 rfl (rest := []) rfl ⟨Nat.le_of_ble_eq_true rfl, Nat.le_of_ble_eq_true rfl⟩ (Nat.le_of_ble_eq_true rfl) (Nat.le_refl _) (Nat.le_refl _) (fun x h hx => ?_)
          obtain ⟨hx, rfl⟩ := hx
          have hx : x = zB (1 ≤ (j - (gbl g n)) ∧ (j - (gbl g n)) ≤ 8) := hx
          subst hx
          refine zr_if_eq hO (zR_B _) (tgt := 73) dX3_labelOf_64 rfl (fun c64 => ?_) (fun c64 => ?_)
          · skip
            have c64 := zB_eq c64
            refine zr_iconst hO dX3_labelOf_73 ?_
            exact zr_ireturn hO dX3_labelOf_74 ⟨(by rw [glb_eq hgr, if_neg (by omega)]), hf⟩
          · skip
            have c64 := zB_ne c64
            refine zr_iload_n hO (hl := rfl) (j := 3) (hi := rfl) dX3_labelOf_67 ?_
            refine zr_iload_n hO (hl := rfl) (j := 2) (hi := rfl) dX3_labelOf_68 ?_
            refine zr_isub hO dX3_labelOf_69 ?_
            refine zr_goto hO (tgt := 74) dX3_labelOf_70 rfl ?_
            exact zr_ireturn hO dX3_labelOf_74 ⟨(by rw [glb_eq hgr, if_pos (by omega)]), hf⟩
    · skip
      refine zr_aload_n hO (hl := rfl) (j := 0) (hi := rfl) dX3_labelOf_17 ?_
      refine zr_iload_n hO (hl := rfl) (j := 1) (hi := rfl) dX3_labelOf_18 ?_
      refine zr_iload_n hO (hl := rfl) (j := 3) (hi := rfl) dX3_labelOf_19 ?_
      refine zr_cVi hO zc_X3 zw_X3_133 (c_X3_byteAt hI hf hg n j (by omega) (by omega) (by omega) (by omega)) dX3_labelOf_20 (zrd_of hf.1) rfl (rest := []) rfl ⟨Nat.le_of_ble_eq_true rfl, Nat.le_of_ble_eq_true rfl⟩ (Nat.le_of_ble_eq_true rfl) (Nat.le_refl _) (Nat.le_refl _) (fun x h hx => ?_)
      obtain ⟨hx, ⟨r5a, r5b⟩, hf⟩ := hx
      have hx : x = gch g n j := hx
      subst hx
      refine zr_cSi hO zw_X3_248 (c_X3_isLetter (gch g n j) (⟨by omega, by omega⟩)) dX3_labelOf_23 rfl (rest := []) rfl ⟨Nat.le_of_ble_eq_true rfl, Nat.le_of_ble_eq_true rfl⟩ (Nat.le_of_ble_eq_true rfl) (Nat.le_refl _) (Nat.le_refl _) (fun x h hx => ?_)
      obtain ⟨hx, rfl⟩ := hx
      have hx : x = zB (97 ≤ (gch g n j) ∧ (gch g n j) ≤ 122) := hx
      subst hx
      refine zr_if_eq hO (zR_B _) (tgt := 35) dX3_labelOf_26 rfl (fun c26 => ?_) (fun c26 => ?_)
      · skip
        have c26 := zB_eq c26
        have hgr := glr_eq i1 i2 i3 (by omega)
        refine zr_iload_n hO (hl := rfl) (j := 3) (hi := rfl) dX3_labelOf_35 ?_
        refine zr_aload_n hO (hl := rfl) (j := 0) (hi := rfl) dX3_labelOf_36 ?_
        refine zr_iload_n hO (hl := rfl) (j := 1) (hi := rfl) dX3_labelOf_37 ?_
        refine zr_cVi hO zc_X3 zw_X3_139 (c_X3_length hI hf hg n (by omega) (by omega)) dX3_labelOf_38 (zrd_of hf.1) rfl (rest := [zi j]) rfl ⟨Nat.le_of_ble_eq_true rfl, Nat.le_of_ble_eq_true rfl⟩ (Nat.le_of_ble_eq_true rfl) (Nat.le_refl _) (Nat.le_refl _) (fun x h hx => ?_)
        obtain ⟨hx, ⟨r6a, r6b⟩, hf⟩ := hx
        have hx : x = gln g n := hx
        subst hx
        refine zr_icmp_ge hO ⟨by omega, by omega⟩ ⟨by omega, by omega⟩ (tgt := 73) dX3_labelOf_41 rfl (fun c41 => ?_) (fun c41 => ?_)
        · skip
          refine zr_iconst hO dX3_labelOf_73 ?_
          exact zr_ireturn hO dX3_labelOf_74 ⟨(by rw [glb_eq hgr, if_neg (by omega)]), hf⟩
        · skip
          refine zr_aload_n hO (hl := rfl) (j := 0) (hi := rfl) dX3_labelOf_44 ?_
          refine zr_iload_n hO (hl := rfl) (j := 1) (hi := rfl) dX3_labelOf_45 ?_
          refine zr_iload_n hO (hl := rfl) (j := 3) (hi := rfl) dX3_labelOf_46 ?_
          refine zr_cVi hO zc_X3 zw_X3_133 (c_X3_byteAt hI hf hg n j (by omega) (by omega) (by omega) (by omega)) dX3_labelOf_47 (zrd_of hf.1) rfl (rest := []) rfl ⟨Nat.le_of_ble_eq_true rfl, Nat.le_of_ble_eq_true rfl⟩ (Nat.le_of_ble_eq_true rfl) (Nat.le_refl _) (Nat.le_refl _) (fun x h hx => ?_)
          obtain ⟨hx, ⟨r7a, r7b⟩, hf⟩ := hx
          have hx : x = gch g n j := hx
          subst hx
          refine zr_bipush hO (by decide) dX3_labelOf_50 ?_
          refine zr_icmp_ne hO ⟨by omega, by omega⟩ ⟨by omega, by omega⟩ (tgt := 73) dX3_labelOf_52 rfl (fun c52 => ?_) (fun c52 => ?_)
          · skip
            refine zr_iconst hO dX3_labelOf_73 ?_
            exact zr_ireturn hO dX3_labelOf_74 ⟨(by rw [glb_eq hgr, if_neg (by omega)]), hf⟩
          · skip
            refine zr_iload_n hO (hl := rfl) (j := 3) (hi := rfl) dX3_labelOf_55 ?_
            refine zr_iload_n hO (hl := rfl) (j := 2) (hi := rfl) dX3_labelOf_56 ?_
            refine zr_isub hO dX3_labelOf_57 ?_
            refine zr_iconst hO dX3_labelOf_58 ?_
            refine zr_bipush hO (by decide) dX3_labelOf_59 ?_
            refine zr_cSi hO zw_X3_95 (c_X3_in (j - (gbl g n)) 1 8 (⟨by omega, by omega⟩) (⟨by omega, by omega⟩) (⟨by omega, by omega⟩)) dX3_labelOf_61 rfl (rest := []) rfl ⟨Nat.le_of_ble_eq_true rfl, Nat.le_of_ble_eq_true rfl⟩ (Nat.le_of_ble_eq_true rfl) (Nat.le_refl _) (Nat.le_refl _) (fun x h hx => ?_)
            obtain ⟨hx, rfl⟩ := hx
            have hx : x = zB (1 ≤ (j - (gbl g n)) ∧ (j - (gbl g n)) ≤ 8) := hx
            subst hx
            refine zr_if_eq hO (zR_B _) (tgt := 73) dX3_labelOf_64 rfl (fun c64 => ?_) (fun c64 => ?_)
            · skip
              have c64 := zB_eq c64
              refine zr_iconst hO dX3_labelOf_73 ?_
              exact zr_ireturn hO dX3_labelOf_74 ⟨(by rw [glb_eq hgr, if_neg (by omega)]), hf⟩
            · skip
              have c64 := zB_ne c64
              refine zr_iload_n hO (hl := rfl) (j := 3) (hi := rfl) dX3_labelOf_67 ?_
              refine zr_iload_n hO (hl := rfl) (j := 2) (hi := rfl) dX3_labelOf_68 ?_
              refine zr_isub hO dX3_labelOf_69 ?_
              refine zr_goto hO (tgt := 74) dX3_labelOf_70 rfl ?_
              exact zr_ireturn hO dX3_labelOf_74 ⟨(by rw [glb_eq hgr, if_pos (by omega)]), hf⟩
      · skip
        have c26 := zB_ne c26
        refine zr_iinc hO (L' := [(3, zi (j + 1)), (0, zp r), (1, zi n), (2, zi (gbl g n))]) (j := 3) dX3_labelOf_29 rfl (Nat.le_of_ble_eq_true rfl) rfl ?_
        refine zr_goto hO (tgt := 8) dX3_labelOf_32 rfl ?_
        refine zV.loc [1, 2, 3, 0] rfl ?_
        exact ih8 _ (by omega) (j + 1) rfl (by omega) (by omega) (fun m a b => by by_cases e : m = j; (rw [e]; exact c26); exact i3 m a (by omega)) h hf
  refine zV.loc [2, 3, 1, 0] rfl ?_
  exact hl8 _ (gbl g n) rfl (by omega) (by omega) (fun m a b => by omega) h hf
theorem c_X3_referenceAt {G : zG} {r : Nat} {ad : Nat → Nat} {h0 : zHp} (hI : zRI r ad) {σ : zS} {h : zHp} (hf : zRf r ad σ h0 h) {g : Nat → Int} (hg : σ.2 1 = g) (n : Int) (h1 : 1 ≤ n) (h2 : n ≤ 80) (h3 : 0 ≤ gln g n) (h4 : gln g n ≤ 24) : zC G yX3_referenceAt cX3_referenceAt 3 (some Jvm.ClassFile.FieldType.int) 3 64 0 0 [zp r, zi n] h (zPi (fun x h' => x = grf g n ∧ zRf r ad σ h0 h') zNo) := by
  refine zC.of zpn_X3 (Nat.le_of_ble_eq_true rfl) (L := [(0, zp r), (1, zi n)]) rfl (fun K hO => ?_)
  refine zr_iconst hO dX3_referenceAt_0 ?_
  refine zr_istore_n hO (L' := [(2, zi 0), (0, zp r), (1, zi n)]) (hi := rfl) dX3_referenceAt_1 (Nat.le_of_ble_eq_true rfl) rfl ?_
  have hl2 : ∀ (n9 : Nat) (k : Int), (gln g n - k).toNat = n9 → ∀ (i1 : 0 ≤ k) (i2 : k ≤ gln g n) (i3 : ∀ m, 1 ≤ m → m ≤ k → ¬ (gch g n (m - 1) = 64 ∧ 97 ≤ gch g n m ∧ gch g n m ≤ 122)) (h : zHp) (hf : zRf r ad σ h0 h), zV G K 0 0 h 2 [(0, zp r), (1, zi n), (2, zi k)] [] := by
    intro n9
    induction n9 using Nat.strongRecOn with
    | _ n9 ih2 =>
    intro k hn2 i1 i2 i3 h hf
    refine zr_iload_n hO (hl := rfl) (j := 2) (hi := rfl) dX3_referenceAt_2 ?_
    refine zr_iconst hO dX3_referenceAt_3 ?_
    refine zr_iadd hO dX3_referenceAt_4 ?_
    refine zr_aload_n hO (hl := rfl) (j := 0) (hi := rfl) dX3_referenceAt_5 ?_
    refine zr_iload_n hO (hl := rfl) (j := 1) (hi := rfl) dX3_referenceAt_6 ?_
    refine zr_cVi hO zc_X3 zw_X3_139 (c_X3_length hI hf hg n (by omega) (by omega)) dX3_referenceAt_7 (zrd_of hf.1) rfl (rest := [zi (k + 1)]) rfl ⟨Nat.le_of_ble_eq_true rfl, Nat.le_of_ble_eq_true rfl⟩ (Nat.le_of_ble_eq_true rfl) (Nat.le_refl _) (Nat.le_refl _) (fun x h hx => ?_)
    obtain ⟨hx, ⟨r1a, r1b⟩, hf⟩ := hx
    have hx : x = gln g n := hx
    subst hx
    refine zr_icmp_ge hO ⟨by omega, by omega⟩ ⟨by omega, by omega⟩ (tgt := 48) dX3_referenceAt_10 rfl (fun c10 => ?_) (fun c10 => ?_)
    · skip
      refine zr_iconst hO dX3_referenceAt_48 ?_
      exact zr_ireturn hO dX3_referenceAt_49 ⟨(grf_miss (fun m a b => i3 m a (by omega))).symm, hf⟩
    · skip
      refine zr_aload_n hO (hl := rfl) (j := 0) (hi := rfl) dX3_referenceAt_13 ?_
      refine zr_iload_n hO (hl := rfl) (j := 1) (hi := rfl) dX3_referenceAt_14 ?_
      refine zr_iload_n hO (hl := rfl) (j := 2) (hi := rfl) dX3_referenceAt_15 ?_
      refine zr_cVi hO zc_X3 zw_X3_133 (c_X3_byteAt hI hf hg n k (by omega) (by omega) (by omega) (by omega)) dX3_referenceAt_16 (zrd_of hf.1) rfl (rest := []) rfl ⟨Nat.le_of_ble_eq_true rfl, Nat.le_of_ble_eq_true rfl⟩ (Nat.le_of_ble_eq_true rfl) (Nat.le_refl _) (Nat.le_refl _) (fun x h hx => ?_)
      obtain ⟨hx, ⟨r2a, r2b⟩, hf⟩ := hx
      have hx : x = gch g n k := hx
      subst hx
      refine zr_bipush hO (by decide) dX3_referenceAt_19 ?_
      refine zr_icmp_ne hO ⟨by omega, by omega⟩ ⟨by omega, by omega⟩ (tgt := 42) dX3_referenceAt_21 rfl (fun c21 => ?_) (fun c21 => ?_)
      · skip
        refine zr_iinc hO (L' := [(2, zi (k + 1)), (0, zp r), (1, zi n)]) (j := 2) dX3_referenceAt_42 rfl (Nat.le_of_ble_eq_true rfl) rfl ?_
        refine zr_goto hO (tgt := 2) dX3_referenceAt_45 rfl ?_
        refine zV.loc [1, 2, 0] rfl ?_
        exact ih2 _ (by omega) (k + 1) rfl (by omega) (by omega) (fun m a b => by by_cases e : m = k + 1; (rw [e, show k + 1 - 1 = k by omega]; omega); exact i3 m a (by omega)) h hf
      · skip
        refine zr_aload_n hO (hl := rfl) (j := 0) (hi := rfl) dX3_referenceAt_24 ?_
        refine zr_iload_n hO (hl := rfl) (j := 1) (hi := rfl) dX3_referenceAt_25 ?_
        refine zr_iload_n hO (hl := rfl) (j := 2) (hi := rfl) dX3_referenceAt_26 ?_
        refine zr_iconst hO dX3_referenceAt_27 ?_
        refine zr_iadd hO dX3_referenceAt_28 ?_
        refine zr_cVi hO zc_X3 zw_X3_133 (c_X3_byteAt hI hf hg n (k + 1) (by omega) (by omega) (by omega) (by omega)) dX3_referenceAt_29 (zrd_of hf.1) rfl (rest := []) rfl ⟨Nat.le_of_ble_eq_true rfl, Nat.le_of_ble_eq_true rfl⟩ (Nat.le_of_ble_eq_true rfl) (Nat.le_refl _) (Nat.le_refl _) (fun x h hx => ?_)
        obtain ⟨hx, ⟨r3a, r3b⟩, hf⟩ := hx
        have hx : x = gch g n (k + 1) := hx
        subst hx
        refine zr_cSi hO zw_X3_248 (c_X3_isLetter (gch g n (k + 1)) (⟨by omega, by omega⟩)) dX3_referenceAt_32 rfl (rest := []) rfl ⟨Nat.le_of_ble_eq_true rfl, Nat.le_of_ble_eq_true rfl⟩ (Nat.le_of_ble_eq_true rfl) (Nat.le_refl _) (Nat.le_refl _) (fun x h hx => ?_)
        obtain ⟨hx, rfl⟩ := hx
        have hx : x = zB (97 ≤ (gch g n (k + 1)) ∧ (gch g n (k + 1)) ≤ 122) := hx
        subst hx
        refine zr_if_eq hO (zR_B _) (tgt := 42) dX3_referenceAt_35 rfl (fun c35 => ?_) (fun c35 => ?_)
        · skip
          have c35 := zB_eq c35
          refine zr_iinc hO (L' := [(2, zi (k + 1)), (0, zp r), (1, zi n)]) (j := 2) dX3_referenceAt_42 rfl (Nat.le_of_ble_eq_true rfl) rfl ?_
          refine zr_goto hO (tgt := 2) dX3_referenceAt_45 rfl ?_
          refine zV.loc [1, 2, 0] rfl ?_
          exact ih2 _ (by omega) (k + 1) rfl (by omega) (by omega) (fun m a b => by by_cases e : m = k + 1; (rw [e, show k + 1 - 1 = k by omega]; omega); exact i3 m a (by omega)) h hf
        · skip
          have c35 := zB_ne c35
          refine zr_iload_n hO (hl := rfl) (j := 2) (hi := rfl) dX3_referenceAt_38 ?_
          refine zr_iconst hO dX3_referenceAt_39 ?_
          refine zr_iadd hO dX3_referenceAt_40 ?_
          exact zr_ireturn hO dX3_referenceAt_41 ⟨(grf_hit (by omega) (by omega) (by rw [show k + 1 - 1 = k by omega]; omega) (fun m a b => i3 m a (by omega))).symm, hf⟩
  refine zV.loc [1, 2, 0] rfl ?_
  exact hl2 _ 0 rfl (by omega) (by omega) (fun m a b => by omega) h hf
theorem zw_X3_221 : zYw RX3 RX3 221 yX3_referenceAt cX3_referenceAt 3 (some Jvm.ClassFile.FieldType.int) 1 := ⟨q3274, q3276, qs76, q116, q3277, rfl, ⟨by decide +kernel, by decide +kernel, by decide +kernel⟩⟩
theorem c_X3_referenceLength {G : zG} {r : Nat} {ad : Nat → Nat} {h0 : zHp} (hI : zRI r ad) {σ : zS} {h : zHp} (hf : zRf r ad σ h0 h) {g : Nat → Int} (hg : σ.2 1 = g) (n : Int) (h1 : 1 ≤ n) (h2 : n ≤ 80) (h3 : 0 ≤ gln g n) (h4 : gln g n ≤ 24) (h5 : grf g n ≠ -1) : zC G yX3_referenceLength cX3_referenceLength 4 (some Jvm.ClassFile.FieldType.int) 4 86 0 0 [zp r, zi n] h (zPi (fun x h' => x = grl g n ∧ zRf r ad σ h0 h') zNo) := by
  refine zC.of zpn_X3 (Nat.le_of_ble_eq_true rfl) (L := [(0, zp r), (1, zi n)]) rfl (fun K hO => ?_)
  have gri := grf_in g n
  refine zr_aload_n hO (hl := rfl) (j := 0) (hi := rfl) dX3_referenceLength_0 ?_
  refine zr_iload_n hO (hl := rfl) (j := 1) (hi := rfl) dX3_referenceLength_1 ?_
  refine zr_cVi hO zc_X3 zw_X3_221 (c_X3_referenceAt hI hf hg n (by omega) (by omega) (by omega) (by omega)) dX3_referenceLength_2 (zrd_of hf.1) rfl (rest := []) rfl ⟨Nat.le_of_ble_eq_true rfl, Nat.le_of_ble_eq_true rfl⟩ (Nat.le_of_ble_eq_true rfl) (Nat.le_refl _) (Nat.le_refl _) (fun x h hx => ?_)
  obtain ⟨hx, hf⟩ := hx
  have hx : x = grf g n := hx
  subst hx
  refine zr_istore_n hO (L' := [(2, zi (grf g n)), (0, zp r), (1, zi n)]) (hi := rfl) dX3_referenceLength_5 (Nat.le_of_ble_eq_true rfl) rfl ?_
  refine zr_iload_n hO (hl := rfl) (j := 0) (hi := rfl) dX3_referenceLength_6 ?_
  refine zr_istore_n hO (L' := [(3, zi (grf g n)), (2, zi (grf g n)), (0, zp r), (1, zi n)]) (hi := rfl) dX3_referenceLength_7 (Nat.le_of_ble_eq_true rfl) rfl ?_
  have hl8 : ∀ (n9 : Nat) (j : Int), (gln g n - j).toNat = n9 → ∀ (i1 : grf g n ≤ j) (i2 : j ≤ gln g n) (i3 : ∀ m, grf g n ≤ m → m < j → 97 ≤ gch g n m ∧ gch g n m ≤ 122) (h : zHp) (hf : zRf r ad σ h0 h), zV G K 0 0 h 8 [(0, zp r), (1, zi n), (2, zi (grf g n)), (3, zi j)] [] := by
    intro n9
    induction n9 using Nat.strongRecOn with
    | _ n9 ih8 =>
    intro j hn8 i1 i2 i3 h hf
    refine zr_iload_n hO (hl := rfl) (j := 3) (hi := rfl) dX3_referenceLength_8 ?_
    refine zr_aload_n hO (hl := rfl) (j := 0) (hi := rfl) dX3_referenceLength_9 ?_
    refine zr_iload_n hO (hl := rfl) (j := 1) (hi := rfl) dX3_referenceLength_10 ?_
    refine zr_cVi hO zc_X3 zw_X3_139 (c_X3_length hI hf hg n (by omega) (by omega)) dX3_referenceLength_11 (zrd_of hf.1) rfl (rest := [zi j]) rfl ⟨Nat.le_of_ble_eq_true rfl, Nat.le_of_ble_eq_true rfl⟩ (Nat.le_of_ble_eq_true rfl) (Nat.le_refl _) (Nat.le_refl _) (fun x h hx => ?_)
    obtain ⟨hx, ⟨r2a, r2b⟩, hf⟩ := hx
    have hx : x = gln g n := hx
    subst hx
    refine zr_icmp_ge hO ⟨by omega, by omega⟩ ⟨by omega, by omega⟩ (tgt := 35) dX3_referenceLength_14 rfl (fun c14 => ?_) (fun c14 => ?_)
    · skip
      have hgr := glr_eq i1 i2 i3 (by omega)
      refine zr_iload_n hO (hl := rfl) (j := 3) (hi := rfl) dX3_referenceLength_35 ?_
      refine zr_iload_n hO (hl := rfl) (j := 2) (hi := rfl) dX3_referenceLength_36 ?_
      refine zr_isub hO dX3_referenceLength_37 ?_
      exact zr_ireturn hO dX3_referenceLength_38 ⟨hgr.symm, hf⟩
    · skip
      refine zr_aload_n hO (hl := rfl) (j := 0) (hi := rfl) dX3_referenceLength_17 ?_
      refine zr_iload_n hO (hl := rfl) (j := 1) (hi := rfl) dX3_referenceLength_18 ?_
      refine zr_iload_n hO (hl := rfl) (j := 3) (hi := rfl) dX3_referenceLength_19 ?_
      refine zr_cVi hO zc_X3 zw_X3_133 (c_X3_byteAt hI hf hg n j (by omega) (by omega) (by omega) (by omega)) dX3_referenceLength_20 (zrd_of hf.1) rfl (rest := []) rfl ⟨Nat.le_of_ble_eq_true rfl, Nat.le_of_ble_eq_true rfl⟩ (Nat.le_of_ble_eq_true rfl) (Nat.le_refl _) (Nat.le_refl _) (fun x h hx => ?_)
      obtain ⟨hx, ⟨r3a, r3b⟩, hf⟩ := hx
      have hx : x = gch g n j := hx
      subst hx
      refine zr_cSi hO zw_X3_248 (c_X3_isLetter (gch g n j) (⟨by omega, by omega⟩)) dX3_referenceLength_23 rfl (rest := []) rfl ⟨Nat.le_of_ble_eq_true rfl, Nat.le_of_ble_eq_true rfl⟩ (Nat.le_of_ble_eq_true rfl) (Nat.le_refl _) (Nat.le_refl _) (fun x h hx => ?_)
      obtain ⟨hx, rfl⟩ := hx
      have hx : x = zB (97 ≤ (gch g n j) ∧ (gch g n j) ≤ 122) := hx
      subst hx
      refine zr_if_eq hO (zR_B _) (tgt := 35) dX3_referenceLength_26 rfl (fun c26 => ?_) (fun c26 => ?_)
      · skip
        have c26 := zB_eq c26
        have hgr := glr_eq i1 i2 i3 (by omega)
        refine zr_iload_n hO (hl := rfl) (j := 3) (hi := rfl) dX3_referenceLength_35 ?_
        refine zr_iload_n hO (hl := rfl) (j := 2) (hi := rfl) dX3_referenceLength_36 ?_
        refine zr_isub hO dX3_referenceLength_37 ?_
        exact zr_ireturn hO dX3_referenceLength_38 ⟨hgr.symm, hf⟩
      · skip
        have c26 := zB_ne c26
        refine zr_iinc hO (L' := [(3, zi (j + 1)), (0, zp r), (1, zi n), (2, zi (grf g n))]) (j := 3) dX3_referenceLength_29 rfl (Nat.le_of_ble_eq_true rfl) rfl ?_
        refine zr_goto hO (tgt := 8) dX3_referenceLength_32 rfl ?_
        refine zV.loc [1, 2, 3, 0] rfl ?_
        exact ih8 _ (by omega) (j + 1) rfl (by omega) (by omega) (fun m a b => by by_cases e : m = j; (rw [e]; exact c26); exact i3 m a (by omega)) h hf
  refine zV.loc [2, 3, 1, 0] rfl ?_
  exact hl8 _ (grf g n) rfl (by omega) (by omega) (fun m a b => by omega) h hf
theorem zw_X3_251 : zYw RX3 RX3 251 yX3_referenceLength cX3_referenceLength 4 (some Jvm.ClassFile.FieldType.int) 1 := ⟨q3348, q3350, qs81, q116, q3351, rfl, ⟨by decide +kernel, by decide +kernel, by decide +kernel⟩⟩
theorem zw_X3_218 : zYw RX3 RX3 218 yX3_labelOf cX3_labelOf 4 (some Jvm.ClassFile.FieldType.int) 1 := ⟨q3263, q3265, qs74, q116, q3266, rfl, ⟨by decide +kernel, by decide +kernel, by decide +kernel⟩⟩
theorem c_X3_leadsTo {G : zG} {r : Nat} {ad : Nat → Nat} {h0 : zHp} (hI : zRI r ad) {σ : zS} {h : zHp} (hf : zRf r ad σ h0 h) {g : Nat → Int} (hg : σ.2 1 = g) (n : Int) (h1 : 1 ≤ n) (h2 : n ≤ g 0) (h5 : grf g n ≠ -1) (hw : zwf g) : zC G yX3_leadsTo cX3_leadsTo 7 (some Jvm.ClassFile.FieldType.int) 5 109 0 0 [zp r, zi n] h (zPi (fun x h' => x = gld g n ∧ zRf r ad σ h0 h') zNo) := by
  refine zC.of zpn_X3 (Nat.le_of_ble_eq_true rfl) (L := [(0, zp r), (1, zi n)]) rfl (fun K hO => ?_)
  obtain ⟨w1, w2, w3⟩ := id hw
  have w3n := w3 n (by omega) (by omega)
  have gri := grf_in g n
  have grn9 := grl_in g h5
  refine zr_aload_n hO (hl := rfl) (j := 0) (hi := rfl) dX3_leadsTo_0 ?_
  refine zr_iload_n hO (hl := rfl) (j := 1) (hi := rfl) dX3_leadsTo_1 ?_
  refine zr_cVi hO zc_X3 zw_X3_221 (c_X3_referenceAt hI hf hg n (by omega) (by omega) (by omega) (by omega)) dX3_leadsTo_2 (zrd_of hf.1) rfl (rest := []) rfl ⟨Nat.le_of_ble_eq_true rfl, Nat.le_of_ble_eq_true rfl⟩ (Nat.le_of_ble_eq_true rfl) (Nat.le_refl _) (Nat.le_refl _) (fun x h hx => ?_)
  obtain ⟨hx, hf⟩ := hx
  have hx : x = grf g n := hx
  subst hx
  refine zr_istore_n hO (L' := [(2, zi (grf g n)), (0, zp r), (1, zi n)]) (hi := rfl) dX3_leadsTo_5 (Nat.le_of_ble_eq_true rfl) rfl ?_
  refine zr_aload_n hO (hl := rfl) (j := 1) (hi := rfl) dX3_leadsTo_6 ?_
  refine zr_iload_n hO (hl := rfl) (j := 2) (hi := rfl) dX3_leadsTo_7 ?_
  refine zr_cVi hO zc_X3 zw_X3_251 (c_X3_referenceLength hI hf hg n (by omega) (by omega) (by omega) (by omega) (by omega)) dX3_leadsTo_8 (zrd_of hf.1) rfl (rest := []) rfl ⟨Nat.le_of_ble_eq_true rfl, Nat.le_of_ble_eq_true rfl⟩ (Nat.le_of_ble_eq_true rfl) (Nat.le_refl _) (Nat.le_refl _) (fun x h hx => ?_)
  obtain ⟨hx, hf⟩ := hx
  have hx : x = grl g n := hx
  subst hx
  refine zr_istore_n hO (L' := [(3, zi (grl g n)), (2, zi (grf g n)), (0, zp r), (1, zi n)]) (hi := rfl) dX3_leadsTo_11 (Nat.le_of_ble_eq_true rfl) rfl ?_
  refine zr_iconst hO dX3_leadsTo_12 ?_
  refine zr_istore hO (L' := [(4, zi 1), (3, zi (grl g n)), (2, zi (grf g n)), (0, zp r), (1, zi n)]) dX3_leadsTo_13 (Nat.le_of_ble_eq_true rfl) rfl ?_
  have hl15 : ∀ (n9 : Nat) (o : Int), (g 0 + 1 - o).toNat = n9 → ∀ (i1 : 1 ≤ o) (i2 : o ≤ g 0 + 1) (i3 : ∀ m, 1 ≤ m → m < o → ¬ glt g n m) (h : zHp) (hf : zRf r ad σ h0 h), zV G K 0 0 h 15 [(0, zp r), (1, zi n), (2, zi (grf g n)), (3, zi (grl g n)), (4, zi o)] [] := by
    intro n9
    induction n9 using Nat.strongRecOn with
    | _ n9 ih15 =>
    intro o hn15 i1 i2 i3 h hf
    refine zr_iload hO (hl := rfl) (j := 4) dX3_leadsTo_15 ?_
    refine zr_aload_n hO (hl := rfl) (j := 0) (hi := rfl) dX3_leadsTo_17 ?_
    refine zs_arr hO hf 1 dX3_leadsTo_18 q2971 (Nat.le_of_ble_eq_true rfl) rfl ?_
    refine zr_iconst hO dX3_leadsTo_21 ?_
    refine zs_ild hO hf 1 (f := g) (n := 2195) (j := 0) dX3_leadsTo_22 rfl rfl rfl hg (by omega) (by omega) rfl (fun ⟨r3a, r3b⟩ => ?_)
    refine zr_icmp_gt hO ⟨by omega, by omega⟩ ⟨by omega, by omega⟩ (tgt := 111) dX3_leadsTo_23 rfl (fun c23 => ?_) (fun c23 => ?_)
    · skip
      refine zr_iconst hO dX3_leadsTo_111 ?_
      exact zr_ireturn hO dX3_leadsTo_112 ⟨(zfd_miss (fun m a b => decide_eq_false (i3 m a (by omega)))).symm, hf⟩
    · skip
      have w3o := w3 o (by omega) (by omega)
      have glo9 := glb_in g o
      have gbo := gbl_in g o w3o.1
      have hj41 : ∀ (b : Int) (hb : b = zB (glb g o = grl g n)) (h : zHp) (hf : zRf r ad σ h0 h), zV G K 0 0 h 41 [(0, zp r), (1, zi n), (2, zi (grf g n)), (3, zi (grl g n)), (4, zi o)] [zi b] := by
        intro b hb h hf
        refine zr_istore hO (L' := [(5, zi b), (0, zp r), (1, zi n), (2, zi (grf g n)), (3, zi (grl g n)), (4, zi o)]) dX3_leadsTo_41 (Nat.le_of_ble_eq_true rfl) rfl ?_
        refine zr_iconst hO dX3_leadsTo_43 ?_
        refine zr_istore hO (L' := [(6, zi 0), (5, zi b), (0, zp r), (1, zi n), (2, zi (grf g n)), (3, zi (grl g n)), (4, zi o)]) dX3_leadsTo_44 (Nat.le_of_ble_eq_true rfl) rfl ?_
        have hl46 : ∀ (n9 : Nat) (k b : Int), (grl g n - k).toNat = n9 → ∀ (k1 : 0 ≤ k) (k2 : k ≤ grl g n) (k3 : b = zB (glb g o = grl g n ∧ ∀ j : Nat, j < k.toNat → gch g o (gbl g o + j) = gch g n (grf g n + j))) (h : zHp) (hf : zRf r ad σ h0 h), zV G K 0 0 h 46 [(0, zp r), (1, zi n), (2, zi (grf g n)), (3, zi (grl g n)), (4, zi o), (5, zi b), (6, zi k)] [] := by
          intro n9
          induction n9 using Nat.strongRecOn with
          | _ n9 ih46 =>
          intro k b hn46 k1 k2 k3 h hf
          have hb1 : b = 0 ∨ b = 1 := by rw [k3]; exact zB_01 _
          refine zr_iload hO (hl := rfl) (j := 6) dX3_leadsTo_46 ?_
          refine zr_iload_n hO (hl := rfl) (j := 3) (hi := rfl) dX3_leadsTo_48 ?_
          refine zr_icmp_ge hO ⟨by omega, by omega⟩ ⟨by omega, by omega⟩ (tgt := 97) dX3_leadsTo_49 rfl (fun c49 => ?_) (fun c49 => ?_)
          · skip
            refine zr_iload hO (hl := rfl) (j := 5) dX3_leadsTo_97 ?_
            refine zr_if_eq hO ⟨by omega, by omega⟩ (tgt := 105) dX3_leadsTo_99 rfl (fun c99 => ?_) (fun c99 => ?_)
            · skip
              refine zr_iinc hO (L' := [(4, zi (o + 1)), (0, zp r), (1, zi n), (2, zi (grf g n)), (3, zi (grl g n)), (5, zi b), (6, zi k)]) (j := 4) dX3_leadsTo_105 rfl (Nat.le_of_ble_eq_true rfl) rfl ?_
              refine zr_goto hO (tgt := 15) dX3_leadsTo_108 rfl ?_
              refine zV.loc [1, 2, 3, 4, 0] rfl ?_
              exact ih15 _ (by omega) (o + 1) rfl (by omega) (by omega) (fun m a b => by by_cases e : m = o; (rw [e]; intro q; have q2 := zB_eq (k3.symm.trans c99); exact q2 ⟨q.1, fun j hj => q.2 j (by omega)⟩) ; exact i3 m a (by omega)) h hf
            · skip
              refine zr_iload hO (hl := rfl) (j := 4) dX3_leadsTo_102 ?_
              exact zr_ireturn hO dX3_leadsTo_104 ⟨(zfd_hit i1 (by omega) (decide_eq_true (by have q := zB_ne (fun z => c99 (k3.trans z)); exact ⟨q.1, fun j hj => q.2 j (by omega)⟩)) (fun m a b => decide_eq_false (i3 m a b))).symm, hf⟩
          · skip
            refine zr_iload hO (hl := rfl) (j := 5) dX3_leadsTo_52 ?_
            refine zr_if_eq hO ⟨by omega, by omega⟩ (tgt := 97) dX3_leadsTo_54 rfl (fun c54 => ?_) (fun c54 => ?_)
            · skip
              refine zr_iload hO (hl := rfl) (j := 5) dX3_leadsTo_97 ?_
              refine zr_if_eq hO ⟨by omega, by omega⟩ (tgt := 105) dX3_leadsTo_99 rfl (fun c99 => ?_) (fun c99 => ?_)
              · skip
                refine zr_iinc hO (L' := [(4, zi (o + 1)), (0, zp r), (1, zi n), (2, zi (grf g n)), (3, zi (grl g n)), (5, zi b), (6, zi k)]) (j := 4) dX3_leadsTo_105 rfl (Nat.le_of_ble_eq_true rfl) rfl ?_
                refine zr_goto hO (tgt := 15) dX3_leadsTo_108 rfl ?_
                refine zV.loc [1, 2, 3, 4, 0] rfl ?_
                exact ih15 _ (by omega) (o + 1) rfl (by omega) (by omega) (fun m a b => by by_cases e : m = o; (rw [e]; intro q; have q2 := zB_eq (k3.symm.trans c99); exact q2 ⟨q.1, fun j hj => q.2 j (by omega)⟩) ; exact i3 m a (by omega)) h hf
              · skip
                refine zr_iload hO (hl := rfl) (j := 4) dX3_leadsTo_102 ?_
                exact zr_ireturn hO dX3_leadsTo_104 ⟨(zfd_hit i1 (by omega) (decide_eq_true (by have q := zB_ne (fun z => c99 (k3.trans z)); exact ⟨q.1, fun j hj => q.2 j (by omega)⟩)) (fun m a b => decide_eq_false (i3 m a b))).symm, hf⟩
            · skip
              have q0 := zB_ne (fun z => c54 (k3.trans z))
              refine zr_aload_n hO (hl := rfl) (j := 0) (hi := rfl) dX3_leadsTo_57 ?_
              refine zr_iload hO (hl := rfl) (j := 4) dX3_leadsTo_58 ?_
              refine zr_aload_n hO (hl := rfl) (j := 0) (hi := rfl) dX3_leadsTo_60 ?_
              refine zr_iload hO (hl := rfl) (j := 4) dX3_leadsTo_61 ?_
              refine zr_cVi hO zc_X3 zw_X3_189 (c_X3_blanks hI hf hg o (by omega) (by omega) (by omega) (by omega)) dX3_leadsTo_63 (zrd_of hf.1) rfl (rest := [zi o, zp r]) rfl ⟨Nat.le_of_ble_eq_true rfl, Nat.le_of_ble_eq_true rfl⟩ (Nat.le_of_ble_eq_true rfl) (Nat.le_refl _) (Nat.le_refl _) (fun x h hx => ?_)
              obtain ⟨hx, ⟨r4a, r4b⟩, hf⟩ := hx
              have hx : x = gbl g o := hx
              subst hx
              refine zr_iload hO (hl := rfl) (j := 6) dX3_leadsTo_66 ?_
              refine zr_iadd hO dX3_leadsTo_68 ?_
              refine zr_cVi hO zc_X3 zw_X3_133 (c_X3_byteAt hI hf hg o ((gbl g o) + k) (by omega) (by omega) (by omega) (by omega)) dX3_leadsTo_69 (zrd_of hf.1) rfl (rest := []) rfl ⟨Nat.le_of_ble_eq_true rfl, Nat.le_of_ble_eq_true rfl⟩ (Nat.le_of_ble_eq_true rfl) (Nat.le_refl _) (Nat.le_refl _) (fun x h hx => ?_)
              obtain ⟨hx, ⟨r5a, r5b⟩, hf⟩ := hx
              have hx : x = gch g o ((gbl g o) + k) := hx
              subst hx
              refine zr_aload_n hO (hl := rfl) (j := 0) (hi := rfl) dX3_leadsTo_72 ?_
              refine zr_iload_n hO (hl := rfl) (j := 1) (hi := rfl) dX3_leadsTo_73 ?_
              refine zr_iload_n hO (hl := rfl) (j := 2) (hi := rfl) dX3_leadsTo_74 ?_
              refine zr_iload hO (hl := rfl) (j := 6) dX3_leadsTo_75 ?_
              refine zr_iadd hO dX3_leadsTo_77 ?_
              refine zr_cVi hO zc_X3 zw_X3_133 (c_X3_byteAt hI hf hg n ((grf g n) + k) (by omega) (by omega) (by omega) (by omega)) dX3_leadsTo_78 (zrd_of hf.1) rfl (rest := [zi (gch g o ((gbl g o) + k))]) rfl ⟨Nat.le_of_ble_eq_true rfl, Nat.le_of_ble_eq_true rfl⟩ (Nat.le_of_ble_eq_true rfl) (Nat.le_refl _) (Nat.le_refl _) (fun x h hx => ?_)
              obtain ⟨hx, ⟨r6a, r6b⟩, hf⟩ := hx
              have hx : x = gch g n ((grf g n) + k) := hx
              subst hx
              refine zr_icmp_ne hO ⟨by omega, by omega⟩ ⟨by omega, by omega⟩ (tgt := 88) dX3_leadsTo_81 rfl (fun c81 => ?_) (fun c81 => ?_)
              · skip
                refine zr_iconst hO dX3_leadsTo_88 ?_
                refine zr_istore hO (L' := [(5, zi 0), (0, zp r), (1, zi n), (2, zi (grf g n)), (3, zi (grl g n)), (4, zi o), (6, zi k)]) dX3_leadsTo_89 (Nat.le_of_ble_eq_true rfl) rfl ?_
                refine zr_iinc hO (L' := [(6, zi (k + 1)), (5, zi 0), (0, zp r), (1, zi n), (2, zi (grf g n)), (3, zi (grl g n)), (4, zi o)]) (j := 6) dX3_leadsTo_91 rfl (Nat.le_of_ble_eq_true rfl) rfl ?_
                refine zr_goto hO (tgt := 46) dX3_leadsTo_94 rfl ?_
                refine zV.loc [2, 3, 4, 5, 6, 1, 0] rfl ?_
                exact ih46 _ (by omega) (k + 1) 0 rfl (by omega) (by omega) (by have q := q0; rw [zB_f]; intro q2; exact c81 (by have := q2.2 k.toNat (by omega); rw [Int.toNat_of_nonneg k1] at this; exact this)) h hf
              · skip
                refine zr_iconst hO dX3_leadsTo_84 ?_
                refine zr_goto hO (tgt := 89) dX3_leadsTo_85 rfl ?_
                refine zr_istore hO (L' := [(5, zi 1), (0, zp r), (1, zi n), (2, zi (grf g n)), (3, zi (grl g n)), (4, zi o), (6, zi k)]) dX3_leadsTo_89 (Nat.le_of_ble_eq_true rfl) rfl ?_
                refine zr_iinc hO (L' := [(6, zi (k + 1)), (5, zi 1), (0, zp r), (1, zi n), (2, zi (grf g n)), (3, zi (grl g n)), (4, zi o)]) (j := 6) dX3_leadsTo_91 rfl (Nat.le_of_ble_eq_true rfl) rfl ?_
                refine zr_goto hO (tgt := 46) dX3_leadsTo_94 rfl ?_
                refine zV.loc [2, 3, 4, 5, 6, 1, 0] rfl ?_
                exact ih46 _ (by omega) (k + 1) 1 rfl (by omega) (by omega) (by have q := q0; rw [zB_t]; exact ⟨q.1, fun j hj => by by_cases e : j = k.toNat; (rw [e, Int.toNat_of_nonneg k1]; exact c81); exact q.2 j (by omega)⟩) h hf
        refine zV.loc [2, 3, 4, 5, 6, 1, 0] rfl ?_
        exact hl46 _ 0 b rfl (by omega) (by omega) (by rw [hb]; congr 1; exact propext ⟨fun q => ⟨q, fun j hj => absurd hj (by omega)⟩, fun q => q.1⟩) h hf
      refine zr_aload_n hO (hl := rfl) (j := 0) (hi := rfl) dX3_leadsTo_26 ?_
      refine zr_iload hO (hl := rfl) (j := 4) dX3_leadsTo_27 ?_
      refine zr_cVi hO zc_X3 zw_X3_218 (c_X3_labelOf hI hf hg o (by omega) (by omega) (by omega) (by omega)) dX3_leadsTo_29 (zrd_of hf.1) rfl (rest := []) rfl ⟨Nat.le_of_ble_eq_true rfl, Nat.le_of_ble_eq_true rfl⟩ (Nat.le_of_ble_eq_true rfl) (Nat.le_refl _) (Nat.le_refl _) (fun x h hx => ?_)
      obtain ⟨hx, hf⟩ := hx
      have hx : x = glb g o := hx
      subst hx
      refine zr_iload_n hO (hl := rfl) (j := 3) (hi := rfl) dX3_leadsTo_32 ?_
      refine zr_icmp_ne hO ⟨by omega, by omega⟩ ⟨by omega, by omega⟩ (tgt := 40) dX3_leadsTo_33 rfl (fun c33 => ?_) (fun c33 => ?_)
      · skip
        refine zr_iconst hO dX3_leadsTo_40 ?_
        exact hj41 0 ((zB_f (by assumption)).symm) h hf
      · skip
        refine zr_iconst hO dX3_leadsTo_36 ?_
        refine zr_goto hO (tgt := 41) dX3_leadsTo_37 rfl ?_
        exact hj41 1 ((zB_t (by assumption)).symm) h hf
  refine zV.loc [3, 4, 2, 1, 0] rfl ?_
  exact hl15 _ 1 rfl (by omega) (by omega) (fun m a b => by omega) h hf
theorem zw_X3_254 : zYw RX3 RX3 254 yX3_leadsTo cX3_leadsTo 7 (some Jvm.ClassFile.FieldType.int) 1 := ⟨q3344, q3346, qs80, q116, q3347, rfl, ⟨by decide +kernel, by decide +kernel, by decide +kernel⟩⟩
theorem c_X3_targetOf {G : zG} {r : Nat} {ad : Nat → Nat} {h0 : zHp} (hI : zRI r ad) {σ : zS} {h : zHp} (hf : zRf r ad σ h0 h) {g : Nat → Int} (hg : σ.2 1 = g) (n : Int) (h1 : 1 ≤ n) (h2 : n ≤ g 0) (hw : zwf g) : zC G yX3_targetOf cX3_targetOf 3 (some Jvm.ClassFile.FieldType.int) 6 135 0 0 [zp r, zi n] h (zPi (fun x h' => x = gtg g n ∧ zRf r ad σ h0 h') zNo) := by
  refine zC.of zpn_X3 (Nat.le_of_ble_eq_true rfl) (L := [(0, zp r), (1, zi n)]) rfl (fun K hO => ?_)
  obtain ⟨w1, w2, w3⟩ := id hw
  have w3n := w3 n (by omega) (by omega)
  have gri := grf_in g n
  have gli9 := gld_in (g := g) n
  refine zr_aload_n hO (hl := rfl) (j := 0) (hi := rfl) dX3_targetOf_0 ?_
  refine zr_iload_n hO (hl := rfl) (j := 1) (hi := rfl) dX3_targetOf_1 ?_
  refine zr_cVi hO zc_X3 zw_X3_221 (c_X3_referenceAt hI hf hg n (by omega) (by omega) (by omega) (by omega)) dX3_targetOf_2 (zrd_of hf.1) rfl (rest := []) rfl ⟨Nat.le_of_ble_eq_true rfl, Nat.le_of_ble_eq_true rfl⟩ (Nat.le_of_ble_eq_true rfl) (Nat.le_refl _) (Nat.le_refl _) (fun x h hx => ?_)
  obtain ⟨hx, hf⟩ := hx
  have hx : x = grf g n := hx
  subst hx
  refine zr_iconst hO dX3_targetOf_5 ?_
  refine zr_icmp_ne hO ⟨by omega, by omega⟩ ⟨by omega, by omega⟩ (tgt := 11) dX3_targetOf_6 rfl (fun c6 => ?_) (fun c6 => ?_)
  · skip
    refine zr_aload_n hO (hl := rfl) (j := 0) (hi := rfl) dX3_targetOf_11 ?_
    refine zr_iload_n hO (hl := rfl) (j := 1) (hi := rfl) dX3_targetOf_12 ?_
    refine zr_cVi hO zc_X3 zw_X3_254 (c_X3_leadsTo hI hf hg n (by omega) (by omega) (by omega) (hw)) dX3_targetOf_13 (zrd_of hf.1) rfl (rest := []) rfl ⟨Nat.le_of_ble_eq_true rfl, Nat.le_of_ble_eq_true rfl⟩ (Nat.le_of_ble_eq_true rfl) (Nat.le_refl _) (Nat.le_refl _) (fun x h hx => ?_)
    obtain ⟨hx, hf⟩ := hx
    have hx : x = gld g n := hx
    subst hx
    refine zr_istore_n hO (L' := [(2, zi (gld g n)), (0, zp r), (1, zi n)]) (hi := rfl) dX3_targetOf_16 (Nat.le_of_ble_eq_true rfl) rfl ?_
    refine zr_iload_n hO (hl := rfl) (j := 0) (hi := rfl) dX3_targetOf_17 ?_
    refine zr_if_ne hO ⟨by omega, by omega⟩ (tgt := 25) dX3_targetOf_18 rfl (fun c18 => ?_) (fun c18 => ?_)
    · skip
      refine zr_iload_n hO (hl := rfl) (j := 0) (hi := rfl) dX3_targetOf_25 ?_
      exact zr_ireturn hO dX3_targetOf_26 ⟨(by unfold gtg; rw [if_neg (by omega), if_neg (by omega)]), hf⟩
    · skip
      refine zr_iconst hO dX3_targetOf_21 ?_
      refine zr_goto hO (tgt := 26) dX3_targetOf_22 rfl ?_
      exact zr_ireturn hO dX3_targetOf_26 ⟨(by unfold gtg; rw [if_neg (by omega), if_pos (by omega)]), hf⟩
  · skip
    refine zr_iconst hO dX3_targetOf_9 ?_
    exact zr_ireturn hO dX3_targetOf_10 ⟨(by unfold gtg; rw [if_pos (by omega)]), hf⟩
theorem c_X3_labelsMany {G : zG} {r : Nat} {ad : Nat → Nat} {h0 : zHp} (hI : zRI r ad) {σ : zS} {h : zHp} (hf : zRf r ad σ h0 h) {g : Nat → Int} (hg : σ.2 1 = g) (hw : zwf g) : zC G yX3_labelsMany cX3_labelsMany 3 (some Jvm.ClassFile.FieldType.int) 5 109 0 0 [zp r] h (zPi (fun x h' => x = glm g ∧ zRf r ad σ h0 h') zNo) := by
  refine zC.of zpn_X3 (Nat.le_of_ble_eq_true rfl) (L := [(0, zp r)]) rfl (fun K hO => ?_)
  obtain ⟨w1, w2, w3⟩ := id hw
  refine zr_iconst hO dX3_labelsMany_0 ?_
  refine zr_istore_n hO (L' := [(1, zi 0), (0, zp r)]) (hi := rfl) dX3_labelsMany_1 (Nat.le_of_ble_eq_true rfl) rfl ?_
  refine zr_iconst hO dX3_labelsMany_2 ?_
  refine zr_istore_n hO (L' := [(2, zi 1), (1, zi 0), (0, zp r)]) (hi := rfl) dX3_labelsMany_3 (Nat.le_of_ble_eq_true rfl) rfl ?_
  have hl4 : ∀ (n9 : Nat) (n a : Int), (g 0 + 1 - n).toNat = n9 → ∀ (i1 : 1 ≤ n) (i2 : n ≤ g 0 + 1) (i3 : a = zsn (fun n => zB (0 < glb g n)) (n - 1).toNat) (h : zHp) (hf : zRf r ad σ h0 h), zV G K 0 0 h 4 [(0, zp r), (1, zi a), (2, zi n)] [] := by
    intro n9
    induction n9 using Nat.strongRecOn with
    | _ n9 ih4 =>
    intro n a hn4 i1 i2 i3 h hf
    refine zr_iload_n hO (hl := rfl) (j := 2) (hi := rfl) dX3_labelsMany_4 ?_
    refine zr_aload_n hO (hl := rfl) (j := 0) (hi := rfl) dX3_labelsMany_5 ?_
    refine zs_arr hO hf 1 dX3_labelsMany_6 q2971 (Nat.le_of_ble_eq_true rfl) rfl ?_
    refine zr_iconst hO dX3_labelsMany_9 ?_
    refine zs_ild hO hf 1 (f := g) (n := 2195) (j := 0) dX3_labelsMany_10 rfl rfl rfl hg (by omega) (by omega) rfl (fun ⟨r1a, r1b⟩ => ?_)
    refine zr_icmp_gt hO ⟨by omega, by omega⟩ ⟨by omega, by omega⟩ (tgt := 36) dX3_labelsMany_11 rfl (fun c11 => ?_) (fun c11 => ?_)
    · skip
      refine zr_iload_n hO (hl := rfl) (j := 1) (hi := rfl) dX3_labelsMany_36 ?_
      exact zr_ireturn hO dX3_labelsMany_37 ⟨(by rw [i3, show n - 1 = g 0 by omega]; rfl), hf⟩
    · skip
      have w3n := w3 n (by omega) (by omega)
      have glbn := glb_in g n
      refine zr_iload_n hO (hl := rfl) (j := 1) (hi := rfl) dX3_labelsMany_14 ?_
      refine zr_aload_n hO (hl := rfl) (j := 0) (hi := rfl) dX3_labelsMany_15 ?_
      refine zr_iload_n hO (hl := rfl) (j := 2) (hi := rfl) dX3_labelsMany_16 ?_
      refine zr_cVi hO zc_X3 zw_X3_218 (c_X3_labelOf hI hf hg n (by omega) (by omega) (by omega) (by omega)) dX3_labelsMany_17 (zrd_of hf.1) rfl (rest := [zi a]) rfl ⟨Nat.le_of_ble_eq_true rfl, Nat.le_of_ble_eq_true rfl⟩ (Nat.le_of_ble_eq_true rfl) (Nat.le_refl _) (Nat.le_refl _) (fun x h hx => ?_)
      obtain ⟨hx, hf⟩ := hx
      have hx : x = glb g n := hx
      subst hx
      refine zr_if_le hO ⟨by omega, by omega⟩ (tgt := 27) dX3_labelsMany_20 rfl (fun c20 => ?_) (fun c20 => ?_)
      · skip
        refine zr_iconst hO dX3_labelsMany_27 ?_
        refine zr_iadd hO dX3_labelsMany_28 ?_
        refine zr_istore_n hO (L' := [(1, zi (a + 0)), (0, zp r), (2, zi n)]) (hi := rfl) dX3_labelsMany_29 (Nat.le_of_ble_eq_true rfl) rfl ?_
        refine zr_iinc hO (L' := [(2, zi (n + 1)), (1, zi (a + 0)), (0, zp r)]) (j := 2) dX3_labelsMany_30 rfl (Nat.le_of_ble_eq_true rfl) rfl ?_
        refine zr_goto hO (tgt := 4) dX3_labelsMany_33 rfl ?_
        refine zV.loc [2, 1, 0] rfl ?_
        exact ih4 _ (by omega) (n + 1) (a + 0) rfl (by omega) (by omega) (by rw [show n + 1 - 1 = n by omega, zsn_p _ i1, ← i3, zB_f (by omega)]) h hf
      · skip
        refine zr_iconst hO dX3_labelsMany_23 ?_
        refine zr_goto hO (tgt := 28) dX3_labelsMany_24 rfl ?_
        refine zr_iadd hO dX3_labelsMany_28 ?_
        refine zr_istore_n hO (L' := [(1, zi (a + 1)), (0, zp r), (2, zi n)]) (hi := rfl) dX3_labelsMany_29 (Nat.le_of_ble_eq_true rfl) rfl ?_
        refine zr_iinc hO (L' := [(2, zi (n + 1)), (1, zi (a + 1)), (0, zp r)]) (j := 2) dX3_labelsMany_30 rfl (Nat.le_of_ble_eq_true rfl) rfl ?_
        refine zr_goto hO (tgt := 4) dX3_labelsMany_33 rfl ?_
        refine zV.loc [2, 1, 0] rfl ?_
        exact ih4 _ (by omega) (n + 1) (a + 1) rfl (by omega) (by omega) (by rw [show n + 1 - 1 = n by omega, zsn_p _ i1, ← i3, zB_t (by omega)]) h hf
  refine zV.loc [2, 1, 0] rfl ?_
  exact hl4 _ 1 0 rfl (by omega) (by omega) (rfl) h hf
theorem c_X3_referencesMany {G : zG} {r : Nat} {ad : Nat → Nat} {h0 : zHp} (hI : zRI r ad) {σ : zS} {h : zHp} (hf : zRf r ad σ h0 h) {g : Nat → Int} (hg : σ.2 1 = g) (hw : zwf g) : zC G yX3_referencesMany cX3_referencesMany 3 (some Jvm.ClassFile.FieldType.int) 4 86 0 0 [zp r] h (zPi (fun x h' => x = grm g ∧ zRf r ad σ h0 h') zNo) := by
  refine zC.of zpn_X3 (Nat.le_of_ble_eq_true rfl) (L := [(0, zp r)]) rfl (fun K hO => ?_)
  obtain ⟨w1, w2, w3⟩ := id hw
  refine zr_iconst hO dX3_referencesMany_0 ?_
  refine zr_istore_n hO (L' := [(1, zi 0), (0, zp r)]) (hi := rfl) dX3_referencesMany_1 (Nat.le_of_ble_eq_true rfl) rfl ?_
  refine zr_iconst hO dX3_referencesMany_2 ?_
  refine zr_istore_n hO (L' := [(2, zi 1), (1, zi 0), (0, zp r)]) (hi := rfl) dX3_referencesMany_3 (Nat.le_of_ble_eq_true rfl) rfl ?_
  have hl4 : ∀ (n9 : Nat) (n a : Int), (g 0 + 1 - n).toNat = n9 → ∀ (i1 : 1 ≤ n) (i2 : n ≤ g 0 + 1) (i3 : a = zsn (fun n => zB (grf g n ≠ -1)) (n - 1).toNat) (h : zHp) (hf : zRf r ad σ h0 h), zV G K 0 0 h 4 [(0, zp r), (1, zi a), (2, zi n)] [] := by
    intro n9
    induction n9 using Nat.strongRecOn with
    | _ n9 ih4 =>
    intro n a hn4 i1 i2 i3 h hf
    refine zr_iload_n hO (hl := rfl) (j := 2) (hi := rfl) dX3_referencesMany_4 ?_
    refine zr_aload_n hO (hl := rfl) (j := 0) (hi := rfl) dX3_referencesMany_5 ?_
    refine zs_arr hO hf 1 dX3_referencesMany_6 q2971 (Nat.le_of_ble_eq_true rfl) rfl ?_
    refine zr_iconst hO dX3_referencesMany_9 ?_
    refine zs_ild hO hf 1 (f := g) (n := 2195) (j := 0) dX3_referencesMany_10 rfl rfl rfl hg (by omega) (by omega) rfl (fun ⟨r1a, r1b⟩ => ?_)
    refine zr_icmp_gt hO ⟨by omega, by omega⟩ ⟨by omega, by omega⟩ (tgt := 37) dX3_referencesMany_11 rfl (fun c11 => ?_) (fun c11 => ?_)
    · skip
      refine zr_iload_n hO (hl := rfl) (j := 1) (hi := rfl) dX3_referencesMany_37 ?_
      exact zr_ireturn hO dX3_referencesMany_38 ⟨(by rw [i3, show n - 1 = g 0 by omega]; rfl), hf⟩
    · skip
      have w3n := w3 n (by omega) (by omega)
      have grfn := grf_in g n
      refine zr_iload_n hO (hl := rfl) (j := 1) (hi := rfl) dX3_referencesMany_14 ?_
      refine zr_aload_n hO (hl := rfl) (j := 0) (hi := rfl) dX3_referencesMany_15 ?_
      refine zr_iload_n hO (hl := rfl) (j := 2) (hi := rfl) dX3_referencesMany_16 ?_
      refine zr_cVi hO zc_X3 zw_X3_221 (c_X3_referenceAt hI hf hg n (by omega) (by omega) (by omega) (by omega)) dX3_referencesMany_17 (zrd_of hf.1) rfl (rest := [zi a]) rfl ⟨Nat.le_of_ble_eq_true rfl, Nat.le_of_ble_eq_true rfl⟩ (Nat.le_of_ble_eq_true rfl) (Nat.le_refl _) (Nat.le_refl _) (fun x h hx => ?_)
      obtain ⟨hx, hf⟩ := hx
      have hx : x = grf g n := hx
      subst hx
      refine zr_iconst hO dX3_referencesMany_20 ?_
      refine zr_icmp_ne hO ⟨by omega, by omega⟩ ⟨by omega, by omega⟩ (tgt := 28) dX3_referencesMany_21 rfl (fun c21 => ?_) (fun c21 => ?_)
      · skip
        refine zr_iconst hO dX3_referencesMany_28 ?_
        refine zr_iadd hO dX3_referencesMany_29 ?_
        refine zr_istore_n hO (L' := [(1, zi (a + 1)), (0, zp r), (2, zi n)]) (hi := rfl) dX3_referencesMany_30 (Nat.le_of_ble_eq_true rfl) rfl ?_
        refine zr_iinc hO (L' := [(2, zi (n + 1)), (1, zi (a + 1)), (0, zp r)]) (j := 2) dX3_referencesMany_31 rfl (Nat.le_of_ble_eq_true rfl) rfl ?_
        refine zr_goto hO (tgt := 4) dX3_referencesMany_34 rfl ?_
        refine zV.loc [2, 1, 0] rfl ?_
        exact ih4 _ (by omega) (n + 1) (a + 1) rfl (by omega) (by omega) (by rw [show n + 1 - 1 = n by omega, zsn_p _ i1, ← i3, zB_t (by omega)]) h hf
      · skip
        refine zr_iconst hO dX3_referencesMany_24 ?_
        refine zr_goto hO (tgt := 29) dX3_referencesMany_25 rfl ?_
        refine zr_iadd hO dX3_referencesMany_29 ?_
        refine zr_istore_n hO (L' := [(1, zi (a + 0)), (0, zp r), (2, zi n)]) (hi := rfl) dX3_referencesMany_30 (Nat.le_of_ble_eq_true rfl) rfl ?_
        refine zr_iinc hO (L' := [(2, zi (n + 1)), (1, zi (a + 0)), (0, zp r)]) (j := 2) dX3_referencesMany_31 rfl (Nat.le_of_ble_eq_true rfl) rfl ?_
        refine zr_goto hO (tgt := 4) dX3_referencesMany_34 rfl ?_
        refine zV.loc [2, 1, 0] rfl ?_
        exact ih4 _ (by omega) (n + 1) (a + 0) rfl (by omega) (by omega) (by rw [show n + 1 - 1 = n by omega, zsn_p _ i1, ← i3, zB_f (by omega)]) h hf
  refine zV.loc [2, 1, 0] rfl ?_
  exact hl4 _ 1 0 rfl (by omega) (by omega) (rfl) h hf
theorem zw_X3_180 : zYw RX3 RX3 180 yX3_hiddenBehind cX3_hiddenBehind 3 (some Jvm.ClassFile.FieldType.int) 1 := ⟨q3169, q3171, qs61, q116, q3172, rfl, ⟨by decide +kernel, by decide +kernel, by decide +kernel⟩⟩
theorem zw_X3_183 : zYw RX3 RX3 183 yX3_markersOn cX3_markersOn 4 (some Jvm.ClassFile.FieldType.int) 1 := ⟨q3173, q3175, qs62, q116, q3176, rfl, ⟨by decide +kernel, by decide +kernel, by decide +kernel⟩⟩
theorem zw_X3_186 : zYw RX3 RX3 186 yX3_beginsAt cX3_beginsAt 4 (some Jvm.ClassFile.FieldType.int) 1 := ⟨q3177, q3179, qs63, q116, q3180, rfl, ⟨by decide +kernel, by decide +kernel, by decide +kernel⟩⟩
theorem c_X3_line {G : zG} {r : Nat} {ad : Nat → Nat} {h0 : zHp} (hI : zRI r ad) {σ : zS} {h : zHp} (hf : zRf r ad σ h0 h) {g : Nat → Int} (hg : σ.2 1 = g) (n : Int) (w : Int) (hn : zR n) (hv : zR w) (hw : zwf g) : zC G yX3_line cX3_line 3 (some Jvm.ClassFile.FieldType.int) 7 157 0 0 [zp r, zi n, zi w] h (zPi (fun x h' => x = (if (1 ≤ n ∧ n ≤ g 0) ∧ (0 ≤ w ∧ w ≤ 9) then gLn g n w else 0) ∧ ∃ τ : zS, τ.1 0 = (if zB (1 ≤ n ∧ n ≤ g 0) = 0 then 1 else 2 - 2 * zB (0 ≤ w ∧ w ≤ 9)) ∧ zCo σ τ ∧ zRf r ad τ h0 h') zNo) := by
  refine zC.of zpn_X3 (Nat.le_of_ble_eq_true rfl) (L := [(0, zp r), (1, zi n), (2, zi w)]) rfl (fun K hO => ?_)
  obtain ⟨w1, w2, w3⟩ := id hw
  obtain ⟨hna, hnb⟩ := hn
  obtain ⟨hva, hvb⟩ := hv
  refine zr_aload_n hO (hl := rfl) (j := 0) (hi := rfl) dX3_line_0 ?_
  refine zr_aload_n hO (hl := rfl) (j := 0) (hi := rfl) dX3_line_1 ?_
  refine zr_iload_n hO (hl := rfl) (j := 1) (hi := rfl) dX3_line_2 ?_
  refine zr_cVi hO zc_X3 zw_X3_167 (c_X3_isLine hI hf hg n (⟨by omega, by omega⟩)) dX3_line_3 (zrd_of hf.1) rfl (rest := [zp r]) rfl ⟨Nat.le_of_ble_eq_true rfl, Nat.le_of_ble_eq_true rfl⟩ (Nat.le_of_ble_eq_true rfl) (Nat.le_refl _) (Nat.le_refl _) (fun x h hx => ?_)
  obtain ⟨hx, hf⟩ := hx
  have hx : x = zB (1 ≤ n ∧ n ≤ g 0) := hx
  subst hx
  refine zr_iload_n hO (hl := rfl) (j := 2) (hi := rfl) dX3_line_6 ?_
  refine zr_iconst hO dX3_line_7 ?_
  refine zr_bipush hO (by decide) dX3_line_8 ?_
  refine zr_cSi hO zw_X3_95 (c_X3_in w 0 9 (⟨by omega, by omega⟩) (⟨by omega, by omega⟩) (⟨by omega, by omega⟩)) dX3_line_10 rfl (rest := [zi (zB (1 ≤ n ∧ n ≤ g 0)), zp r]) rfl ⟨Nat.le_of_ble_eq_true rfl, Nat.le_of_ble_eq_true rfl⟩ (Nat.le_of_ble_eq_true rfl) (Nat.le_refl _) (Nat.le_refl _) (fun x h hx => ?_)
  obtain ⟨hx, rfl⟩ := hx
  have hx : x = zB (0 ≤ w ∧ w ≤ 9) := hx
  subst hx
  refine zr_cVi hO zc_X3 zw_X3_170 (c_X3_mayBoth hI hf (zB (1 ≤ n ∧ n ≤ g 0)) (zB (0 ≤ w ∧ w ≤ 9)) (zB_01 _) (zB_01 _)) dX3_line_13 (zrd_of hf.1) rfl (rest := []) rfl ⟨Nat.le_of_ble_eq_true rfl, Nat.le_of_ble_eq_true rfl⟩ (Nat.le_of_ble_eq_true rfl) (Nat.le_refl _) (Nat.le_refl _) (fun x h hx => ?_)
  obtain ⟨hx, hf⟩ := hx
  have hx : x = zB ((zB (1 ≤ n ∧ n ≤ g 0)) = 1 ∧ (zB (0 ≤ w ∧ w ≤ 9)) = 1) := hx
  subst hx
  have hf : zRf r ad (zuS σ 0 (if (zB (1 ≤ n ∧ n ≤ g 0)) = 0 then 1 else 2 - 2 * (zB (0 ≤ w ∧ w ≤ 9)))) h0 h := hf
  rw [show (zB ((zB (1 ≤ n ∧ n ≤ g 0)) = 1 ∧ (zB (0 ≤ w ∧ w ≤ 9)) = 1)) = zB ((1 ≤ n ∧ n ≤ g 0) ∧ (0 ≤ w ∧ w ≤ 9)) from zB_and _ _]
  refine zr_if_ne hO (zR_B _) (tgt := 21) dX3_line_16 rfl (fun c16 => ?_) (fun c16 => ?_)
  · skip
    have c16 := zB_ne c16
    have w3n := w3 n (by omega) (by omega)
    refine zr_aload_n hO (hl := rfl) (j := 0) (hi := rfl) dX3_line_21 ?_
    refine zr_cVv hO zc_X3 zw_X3_174 (c_X3_layAll hI hf hg  (hw)) dX3_line_22 (zrd_of hf.1) rfl (rest := []) rfl ⟨Nat.le_of_ble_eq_true rfl, Nat.le_of_ble_eq_true rfl⟩ (Nat.le_of_ble_eq_true rfl) (Nat.le_refl _) (Nat.le_refl _) (fun h hx => ?_)
    obtain ⟨τ1, hs1, hd1, hf⟩ := hx
    refine zr_iload_n hO (hl := rfl) (j := 2) (hi := rfl) dX3_line_25 ?_
    have hsw : w = 0 ∨ w = 1 ∨ w = 2 ∨ w = 3 ∨ w = 4 ∨ w = 5 ∨ w = 6 ∨ w = 7 ∨ w = 8 ∨ w < 0 ∨ 8 < w := by omega
    rcases hsw with c26 | c26 | c26 | c26 | c26 | c26 | c26 | c26 | c26 | c26 | c26
    · refine zr_swIn hO dX3_line_26 ⟨by omega, by omega⟩ (by omega) (by omega) (off := 50) (by rw [c26]; rfl) (tgt := 76) rfl ?_
      refine zr_aload_n hO (hl := rfl) (j := 0) (hi := rfl) dX3_line_76 ?_
      refine zr_iload_n hO (hl := rfl) (j := 1) (hi := rfl) dX3_line_77 ?_
      refine zr_iconst hO dX3_line_78 ?_
      refine zr_cVi hO zc_X3 zw_X3_129 (c_X3_of hI hf ((hs1.2 1 rfl).trans hg) n 0 (by omega) (by omega)) dX3_line_79 (zrd_of hf.1) rfl (rest := []) rfl ⟨Nat.le_of_ble_eq_true rfl, Nat.le_of_ble_eq_true rfl⟩ (Nat.le_of_ble_eq_true rfl) (Nat.le_refl _) (Nat.le_refl _) (fun x h hx => ?_)
      obtain ⟨hx, ⟨r3a, r3b⟩, hf⟩ := hx
      have hx : x = gky g n := hx
      subst hx
      exact zr_ireturn hO dX3_line_82 ⟨(by rw [if_pos c16, c26, gLn_0]), τ1, (((hs1.1 0 (by decide) (by decide)).trans rfl)), (((zCo.refl σ).uS (k := 0) (by decide) (if (zB (1 ≤ n ∧ n ≤ g 0)) = 0 then 1 else 2 - 2 * (zB (0 ≤ w ∧ w ≤ 9)))).tr hs1), hf⟩
    · refine zr_swIn hO dX3_line_26 ⟨by omega, by omega⟩ (by omega) (by omega) (off := 57) (by rw [c26]; rfl) (tgt := 83) rfl ?_
      refine zr_aload_n hO (hl := rfl) (j := 0) (hi := rfl) dX3_line_83 ?_
      refine zr_iload_n hO (hl := rfl) (j := 1) (hi := rfl) dX3_line_84 ?_
      refine zr_cVi hO zc_X3 zw_X3_139 (c_X3_length hI hf ((hs1.2 1 rfl).trans hg) n (by omega) (by omega)) dX3_line_85 (zrd_of hf.1) rfl (rest := []) rfl ⟨Nat.le_of_ble_eq_true rfl, Nat.le_of_ble_eq_true rfl⟩ (Nat.le_of_ble_eq_true rfl) (Nat.le_refl _) (Nat.le_refl _) (fun x h hx => ?_)
      obtain ⟨hx, ⟨r4a, r4b⟩, hf⟩ := hx
      have hx : x = gln g n := hx
      subst hx
      exact zr_ireturn hO dX3_line_88 ⟨(by rw [if_pos c16, c26, gLn_1]), τ1, (((hs1.1 0 (by decide) (by decide)).trans rfl)), (((zCo.refl σ).uS (k := 0) (by decide) (if (zB (1 ≤ n ∧ n ≤ g 0)) = 0 then 1 else 2 - 2 * (zB (0 ≤ w ∧ w ≤ 9)))).tr hs1), hf⟩
    · refine zr_swIn hO dX3_line_26 ⟨by omega, by omega⟩ (by omega) (by omega) (off := 63) (by rw [c26]; rfl) (tgt := 89) rfl ?_
      refine zr_aload_n hO (hl := rfl) (j := 0) (hi := rfl) dX3_line_89 ?_
      refine zs_arr hO hf 21 dX3_line_90 q2991 (Nat.le_of_ble_eq_true rfl) rfl ?_
      refine zr_iload_n hO (hl := rfl) (j := 1) (hi := rfl) dX3_line_93 ?_
      refine zs_zld hO hf 21 (f := τ1.2 21) (n := 82) (j := n.toNat) dX3_line_94 rfl rfl rfl rfl (by omega) (by omega) rfl (fun r5 => ?_)
      have hH01 := ghH_01 g (gcl g) n.toNat
      rw [show ((τ1.2 21) n.toNat) = ghH g (gcl g) n.toNat from (zHd_at hd1.2.2 (by omega) (by omega)).2]
      refine zr_if_eq hO ⟨by omega, by omega⟩ (tgt := 102) dX3_line_95 rfl (fun c95 => ?_) (fun c95 => ?_)
      · skip
        refine zr_iconst hO dX3_line_102 ?_
        exact zr_ireturn hO dX3_line_103 ⟨(by rw [if_pos c16, c26, gLn_2]; omega), τ1, (((hs1.1 0 (by decide) (by decide)).trans rfl)), (((zCo.refl σ).uS (k := 0) (by decide) (if (zB (1 ≤ n ∧ n ≤ g 0)) = 0 then 1 else 2 - 2 * (zB (0 ≤ w ∧ w ≤ 9)))).tr hs1), hf⟩
      · skip
        refine zr_iconst hO dX3_line_98 ?_
        refine zr_goto hO (tgt := 103) dX3_line_99 rfl ?_
        exact zr_ireturn hO dX3_line_103 ⟨(by rw [if_pos c16, c26, gLn_2]; omega), τ1, (((hs1.1 0 (by decide) (by decide)).trans rfl)), (((zCo.refl σ).uS (k := 0) (by decide) (if (zB (1 ≤ n ∧ n ≤ g 0)) = 0 then 1 else 2 - 2 * (zB (0 ≤ w ∧ w ≤ 9)))).tr hs1), hf⟩
    · refine zr_swIn hO dX3_line_26 ⟨by omega, by omega⟩ (by omega) (by omega) (off := 78) (by rw [c26]; rfl) (tgt := 104) rfl ?_
      refine zr_aload_n hO (hl := rfl) (j := 0) (hi := rfl) dX3_line_104 ?_
      refine zs_arr hO hf 21 dX3_line_105 q2991 (Nat.le_of_ble_eq_true rfl) rfl ?_
      refine zr_iload_n hO (hl := rfl) (j := 1) (hi := rfl) dX3_line_108 ?_
      refine zs_zld hO hf 21 (f := τ1.2 21) (n := 82) (j := n.toNat) dX3_line_109 rfl rfl rfl rfl (by omega) (by omega) rfl (fun r6 => ?_)
      have hH01 := ghH_01 g (gcl g) n.toNat
      rw [show ((τ1.2 21) n.toNat) = ghH g (gcl g) n.toNat from (zHd_at hd1.2.2 (by omega) (by omega)).2]
      refine zr_if_eq hO ⟨by omega, by omega⟩ (tgt := 117) dX3_line_110 rfl (fun c110 => ?_) (fun c110 => ?_)
      · skip
        refine zr_aload_n hO (hl := rfl) (j := 0) (hi := rfl) dX3_line_117 ?_
        refine zr_iload_n hO (hl := rfl) (j := 1) (hi := rfl) dX3_line_118 ?_
        refine zr_cVi hO zc_X3 zw_X3_177 (c_X3_rowOf hI hf (rfl : τ1.2 21 = (τ1.2 21)) n (by omega) (by omega)) dX3_line_119 (zrd_of hf.1) rfl (rest := []) rfl ⟨Nat.le_of_ble_eq_true rfl, Nat.le_of_ble_eq_true rfl⟩ (Nat.le_of_ble_eq_true rfl) (Nat.le_refl _) (Nat.le_refl _) (fun x h hx => ?_)
        obtain ⟨hx, hf⟩ := hx
        have hx : x = gshn ((τ1.2 21)) n := hx
        subst hx
        exact zr_ireturn hO dX3_line_122 ⟨(by rw [if_pos c16, c26, gLn_3, if_pos (by omega)]; exact gshn_of hd1.2.2 (by omega)), τ1, (((hs1.1 0 (by decide) (by decide)).trans rfl)), (((zCo.refl σ).uS (k := 0) (by decide) (if (zB (1 ≤ n ∧ n ≤ g 0)) = 0 then 1 else 2 - 2 * (zB (0 ≤ w ∧ w ≤ 9)))).tr hs1), hf⟩
      · skip
        refine zr_iconst hO dX3_line_113 ?_
        refine zr_goto hO (tgt := 122) dX3_line_114 rfl ?_
        exact zr_ireturn hO dX3_line_122 ⟨(by rw [if_pos c16, c26, gLn_3, if_neg (by omega)]), τ1, (((hs1.1 0 (by decide) (by decide)).trans rfl)), (((zCo.refl σ).uS (k := 0) (by decide) (if (zB (1 ≤ n ∧ n ≤ g 0)) = 0 then 1 else 2 - 2 * (zB (0 ≤ w ∧ w ≤ 9)))).tr hs1), hf⟩
    · refine zr_swIn hO dX3_line_26 ⟨by omega, by omega⟩ (by omega) (by omega) (off := 97) (by rw [c26]; rfl) (tgt := 123) rfl ?_
      refine zr_aload_n hO (hl := rfl) (j := 0) (hi := rfl) dX3_line_123 ?_
      refine zs_arr hO hf 20 dX3_line_124 q2990 (Nat.le_of_ble_eq_true rfl) rfl ?_
      refine zr_iload_n hO (hl := rfl) (j := 1) (hi := rfl) dX3_line_127 ?_
      refine zs_ild hO hf 20 (f := τ1.2 20) (n := 82) (j := n.toNat) dX3_line_128 rfl rfl rfl rfl (by omega) (by omega) rfl (fun ⟨r8a, r8b⟩ => ?_)
      exact zr_ireturn hO dX3_line_129 ⟨(by rw [if_pos c16, c26, gLn_4]; exact (zHd_at hd1.2.2 (by omega) (by omega)).1), τ1, (((hs1.1 0 (by decide) (by decide)).trans rfl)), (((zCo.refl σ).uS (k := 0) (by decide) (if (zB (1 ≤ n ∧ n ≤ g 0)) = 0 then 1 else 2 - 2 * (zB (0 ≤ w ∧ w ≤ 9)))).tr hs1), hf⟩
    · refine zr_swIn hO dX3_line_26 ⟨by omega, by omega⟩ (by omega) (by omega) (off := 104) (by rw [c26]; rfl) (tgt := 130) rfl ?_
      refine zr_aload_n hO (hl := rfl) (j := 0) (hi := rfl) dX3_line_130 ?_
      refine zr_iload_n hO (hl := rfl) (j := 1) (hi := rfl) dX3_line_131 ?_
      refine zr_iconst hO dX3_line_132 ?_
      refine zr_cVi hO zc_X3 zw_X3_129 (c_X3_of hI hf ((hs1.2 1 rfl).trans hg) n 1 (by omega) (by omega)) dX3_line_133 (zrd_of hf.1) rfl (rest := []) rfl ⟨Nat.le_of_ble_eq_true rfl, Nat.le_of_ble_eq_true rfl⟩ (Nat.le_of_ble_eq_true rfl) (Nat.le_refl _) (Nat.le_refl _) (fun x h hx => ?_)
      obtain ⟨hx, ⟨r9a, r9b⟩, hf⟩ := hx
      have hx : x = gcl g n := hx
      subst hx
      exact zr_ireturn hO dX3_line_136 ⟨(by rw [if_pos c16, c26, gLn_5]), τ1, (((hs1.1 0 (by decide) (by decide)).trans rfl)), (((zCo.refl σ).uS (k := 0) (by decide) (if (zB (1 ≤ n ∧ n ≤ g 0)) = 0 then 1 else 2 - 2 * (zB (0 ≤ w ∧ w ≤ 9)))).tr hs1), hf⟩
    · refine zr_swIn hO dX3_line_26 ⟨by omega, by omega⟩ (by omega) (by omega) (off := 111) (by rw [c26]; rfl) (tgt := 137) rfl ?_
      refine zr_aload_n hO (hl := rfl) (j := 0) (hi := rfl) dX3_line_137 ?_
      refine zr_iload_n hO (hl := rfl) (j := 1) (hi := rfl) dX3_line_138 ?_
      refine zr_cVi hO zc_X3 zw_X3_180 (c_X3_hiddenBehind hI hf ((hs1.2 1 rfl).trans hg) (rfl : τ1.2 21 = (τ1.2 21)) n (by omega) (by omega) (by omega) (by omega)) dX3_line_139 (zrd_of hf.1) rfl (rest := []) rfl ⟨Nat.le_of_ble_eq_true rfl, Nat.le_of_ble_eq_true rfl⟩ (Nat.le_of_ble_eq_true rfl) (Nat.le_refl _) (Nat.le_refl _) (fun x h hx => ?_)
      obtain ⟨hx, hf⟩ := hx
      have hx : x = ghb ((τ1.2 21)) (g 0) n := hx
      subst hx
      exact zr_ireturn hO dX3_line_142 ⟨(by rw [if_pos c16, c26, gLn_6]; exact ghb_of hd1.2.2 (by omega) (by omega)), τ1, (((hs1.1 0 (by decide) (by decide)).trans rfl)), (((zCo.refl σ).uS (k := 0) (by decide) (if (zB (1 ≤ n ∧ n ≤ g 0)) = 0 then 1 else 2 - 2 * (zB (0 ≤ w ∧ w ≤ 9)))).tr hs1), hf⟩
    · refine zr_swIn hO dX3_line_26 ⟨by omega, by omega⟩ (by omega) (by omega) (off := 117) (by rw [c26]; rfl) (tgt := 143) rfl ?_
      refine zr_aload_n hO (hl := rfl) (j := 0) (hi := rfl) dX3_line_143 ?_
      refine zr_iload_n hO (hl := rfl) (j := 1) (hi := rfl) dX3_line_144 ?_
      refine zr_cVi hO zc_X3 zw_X3_183 (c_X3_markersOn hI hf ((hs1.2 1 rfl).trans hg) n (by omega) (by omega)) dX3_line_145 (zrd_of hf.1) rfl (rest := []) rfl ⟨Nat.le_of_ble_eq_true rfl, Nat.le_of_ble_eq_true rfl⟩ (Nat.le_of_ble_eq_true rfl) (Nat.le_refl _) (Nat.le_refl _) (fun x h hx => ?_)
      obtain ⟨hx, hf⟩ := hx
      have hx : x = gmo g (gky g n) := hx
      subst hx
      exact zr_ireturn hO dX3_line_148 ⟨(by rw [if_pos c16, c26, gLn_7]), τ1, (((hs1.1 0 (by decide) (by decide)).trans rfl)), (((zCo.refl σ).uS (k := 0) (by decide) (if (zB (1 ≤ n ∧ n ≤ g 0)) = 0 then 1 else 2 - 2 * (zB (0 ≤ w ∧ w ≤ 9)))).tr hs1), hf⟩
    · refine zr_swIn hO dX3_line_26 ⟨by omega, by omega⟩ (by omega) (by omega) (off := 123) (by rw [c26]; rfl) (tgt := 149) rfl ?_
      have hq22 := hd1.2.1.1
      have hN := gN_le g
      refine zr_aload_n hO (hl := rfl) (j := 0) (hi := rfl) dX3_line_149 ?_
      refine zr_iload_n hO (hl := rfl) (j := 1) (hi := rfl) dX3_line_150 ?_
      refine zr_cVi hO zc_X3 zw_X3_186 (c_X3_beginsAt hI hf (rfl : τ1.2 14 = (τ1.2 14)) (rfl : τ1.1 22 = (τ1.1 22)) n (⟨by omega, by omega⟩) (by omega) (by omega)) dX3_line_151 (zrd_of hf.1) rfl (rest := []) rfl ⟨Nat.le_of_ble_eq_true rfl, Nat.le_of_ble_eq_true rfl⟩ (Nat.le_of_ble_eq_true rfl) (Nat.le_refl _) (Nat.le_refl _) (fun x h hx => ?_)
      obtain ⟨hx, hf⟩ := hx
      have hx : x = gbgn ((τ1.2 14)) n ((τ1.1 22)) := hx
      subst hx
      exact zr_ireturn hO dX3_line_154 ⟨(by rw [if_pos c16, c26, gLn_8]; unfold gbgn; rw [hd1.2.1.1, Int.toNat_natCast]; exact gbgn_of hd1.2.1 n _ (Nat.le_refl _)), τ1, (((hs1.1 0 (by decide) (by decide)).trans rfl)), (((zCo.refl σ).uS (k := 0) (by decide) (if (zB (1 ≤ n ∧ n ≤ g 0)) = 0 then 1 else 2 - 2 * (zB (0 ≤ w ∧ w ≤ 9)))).tr hs1), hf⟩
    · refine zr_swOut hO dX3_line_26 ⟨by omega, by omega⟩ (Or.inl c26) (tgt := 155) rfl ?_
      refine zr_aload_n hO (hl := rfl) (j := 0) (hi := rfl) dX3_line_155 ?_
      refine zr_iload_n hO (hl := rfl) (j := 1) (hi := rfl) dX3_line_156 ?_
      refine zr_cVi hO zc_X3 zw_X3_189 (c_X3_blanks hI hf ((hs1.2 1 rfl).trans hg) n (by omega) (by omega) (by omega) (by omega)) dX3_line_157 (zrd_of hf.1) rfl (rest := []) rfl ⟨Nat.le_of_ble_eq_true rfl, Nat.le_of_ble_eq_true rfl⟩ (Nat.le_of_ble_eq_true rfl) (Nat.le_refl _) (Nat.le_refl _) (fun x h hx => ?_)
      obtain ⟨hx, ⟨r13a, r13b⟩, hf⟩ := hx
      have hx : x = gbl g n := hx
      subst hx
      exact zr_ireturn hO dX3_line_160 ⟨(by rw [if_pos c16, gLn_9 g (by omega)]), τ1, (((hs1.1 0 (by decide) (by decide)).trans rfl)), (((zCo.refl σ).uS (k := 0) (by decide) (if (zB (1 ≤ n ∧ n ≤ g 0)) = 0 then 1 else 2 - 2 * (zB (0 ≤ w ∧ w ≤ 9)))).tr hs1), hf⟩
    · refine zr_swOut hO dX3_line_26 ⟨by omega, by omega⟩ (Or.inr c26) (tgt := 155) rfl ?_
      refine zr_aload_n hO (hl := rfl) (j := 0) (hi := rfl) dX3_line_155 ?_
      refine zr_iload_n hO (hl := rfl) (j := 1) (hi := rfl) dX3_line_156 ?_
      refine zr_cVi hO zc_X3 zw_X3_189 (c_X3_blanks hI hf ((hs1.2 1 rfl).trans hg) n (by omega) (by omega) (by omega) (by omega)) dX3_line_157 (zrd_of hf.1) rfl (rest := []) rfl ⟨Nat.le_of_ble_eq_true rfl, Nat.le_of_ble_eq_true rfl⟩ (Nat.le_of_ble_eq_true rfl) (Nat.le_refl _) (Nat.le_refl _) (fun x h hx => ?_)
      obtain ⟨hx, ⟨r14a, r14b⟩, hf⟩ := hx
      have hx : x = gbl g n := hx
      subst hx
      exact zr_ireturn hO dX3_line_160 ⟨(by rw [if_pos c16, gLn_9 g (by omega)]), τ1, (((hs1.1 0 (by decide) (by decide)).trans rfl)), (((zCo.refl σ).uS (k := 0) (by decide) (if (zB (1 ≤ n ∧ n ≤ g 0)) = 0 then 1 else 2 - 2 * (zB (0 ≤ w ∧ w ≤ 9)))).tr hs1), hf⟩
  · skip
    have c16 := zB_eq c16
    refine zr_iconst hO dX3_line_19 ?_
    exact zr_ireturn hO dX3_line_20 ⟨(by rw [if_neg c16]), (zuS σ 0 (if (zB (1 ≤ n ∧ n ≤ g 0)) = 0 then 1 else 2 - 2 * (zB (0 ≤ w ∧ w ≤ 9)))), (rfl), ((zCo.refl σ).uS (k := 0) (by decide) (if (zB (1 ≤ n ∧ n ≤ g 0)) = 0 then 1 else 2 - 2 * (zB (0 ≤ w ∧ w ≤ 9)))), hf⟩
theorem zw_X3_224 : zYw RX3 RX3 224 yX3_foldedMany cX3_foldedMany 3 (some Jvm.ClassFile.FieldType.int) 0 := ⟨q3247, q3249, qs70, q116, q3250, rfl, ⟨by decide +kernel, by decide +kernel, by decide +kernel⟩⟩
theorem zw_X3_227 : zYw RX3 RX3 227 yX3_markersOnMany cX3_markersOnMany 3 (some Jvm.ClassFile.FieldType.int) 0 := ⟨q3255, q3257, qs72, q116, q3258, rfl, ⟨by decide +kernel, by decide +kernel, by decide +kernel⟩⟩
theorem zw_X3_230 : zYw RX3 RX3 230 yX3_labelsMany cX3_labelsMany 3 (some Jvm.ClassFile.FieldType.int) 0 := ⟨q3259, q3261, qs73, q116, q3262, rfl, ⟨by decide +kernel, by decide +kernel, by decide +kernel⟩⟩
theorem zw_X3_233 : zYw RX3 RX3 233 yX3_referencesMany cX3_referencesMany 3 (some Jvm.ClassFile.FieldType.int) 0 := ⟨q3270, q3272, qs75, q116, q3273, rfl, ⟨by decide +kernel, by decide +kernel, by decide +kernel⟩⟩
theorem c_X3_count {G : zG} {r : Nat} {ad : Nat → Nat} {h0 : zHp} (hI : zRI r ad) {σ : zS} {h : zHp} (hf : zRf r ad σ h0 h) {g : Nat → Int} (hg : σ.2 1 = g) (w : Int) (hv : zR w) (hw : zwf g) : zC G yX3_count cX3_count 2 (some Jvm.ClassFile.FieldType.int) 7 157 0 0 [zp r, zi w] h (zPi (fun x h' => x = (if 0 ≤ w ∧ w ≤ 10 then gCt g w else 0) ∧ ∃ τ : zS, τ.1 0 = (1 - zB (0 ≤ w ∧ w ≤ 10)) ∧ zCo σ τ ∧ zRf r ad τ h0 h') zNo) := by
  refine zC.of zpn_X3 (Nat.le_of_ble_eq_true rfl) (L := [(0, zp r), (1, zi w)]) rfl (fun K hO => ?_)
  obtain ⟨w1, w2, w3⟩ := id hw
  obtain ⟨hva, hvb⟩ := hv
  refine zr_aload_n hO (hl := rfl) (j := 0) (hi := rfl) dX3_count_0 ?_
  refine zr_iload_n hO (hl := rfl) (j := 1) (hi := rfl) dX3_count_1 ?_
  refine zr_iconst hO dX3_count_2 ?_
  refine zr_bipush hO (by decide) dX3_count_3 ?_
  refine zr_cSi hO zw_X3_95 (c_X3_in w 0 10 (⟨by omega, by omega⟩) (⟨by omega, by omega⟩) (⟨by omega, by omega⟩)) dX3_count_5 rfl (rest := [zp r]) rfl ⟨Nat.le_of_ble_eq_true rfl, Nat.le_of_ble_eq_true rfl⟩ (Nat.le_of_ble_eq_true rfl) (Nat.le_refl _) (Nat.le_refl _) (fun x h hx => ?_)
  obtain ⟨hx, rfl⟩ := hx
  have hx : x = zB (0 ≤ w ∧ w ≤ 10) := hx
  subst hx
  refine zr_cVi hO zc_X3 zw_X3_111 (c_X3_may hI hf (zB (0 ≤ w ∧ w ≤ 10)) (zB_01 _)) dX3_count_8 (zrd_of hf.1) rfl (rest := []) rfl ⟨Nat.le_of_ble_eq_true rfl, Nat.le_of_ble_eq_true rfl⟩ (Nat.le_of_ble_eq_true rfl) (Nat.le_refl _) (Nat.le_refl _) (fun x h hx => ?_)
  obtain ⟨hx, hf⟩ := hx
  have hx : x = (zB (0 ≤ w ∧ w ≤ 10)) := hx
  subst hx
  have hf : zRf r ad (zuS σ 0 (1 - (zB (0 ≤ w ∧ w ≤ 10)))) h0 h := hf
  refine zr_if_ne hO (zR_B _) (tgt := 16) dX3_count_11 rfl (fun c11 => ?_) (fun c11 => ?_)
  · skip
    have c11 := zB_ne c11
    refine zr_aload_n hO (hl := rfl) (j := 0) (hi := rfl) dX3_count_16 ?_
    refine zr_cVv hO zc_X3 zw_X3_174 (c_X3_layAll hI hf hg  (hw)) dX3_count_17 (zrd_of hf.1) rfl (rest := []) rfl ⟨Nat.le_of_ble_eq_true rfl, Nat.le_of_ble_eq_true rfl⟩ (Nat.le_of_ble_eq_true rfl) (Nat.le_refl _) (Nat.le_refl _) (fun h hx => ?_)
    obtain ⟨τ1, hs1, hd1, hf⟩ := hx
    refine zr_iload_n hO (hl := rfl) (j := 1) (hi := rfl) dX3_count_20 ?_
    have hsw : w = 0 ∨ w = 1 ∨ w = 2 ∨ w = 3 ∨ w = 4 ∨ w = 5 ∨ w = 6 ∨ w = 7 ∨ w = 8 ∨ w = 9 ∨ w < 0 ∨ 9 < w := by omega
    rcases hsw with c21 | c21 | c21 | c21 | c21 | c21 | c21 | c21 | c21 | c21 | c21 | c21
    · refine zr_swIn hO dX3_count_21 ⟨by omega, by omega⟩ (by omega) (by omega) (off := 55) (by rw [c21]; rfl) (tgt := 76) rfl ?_
      refine zr_aload_n hO (hl := rfl) (j := 0) (hi := rfl) dX3_count_76 ?_
      refine zs_arr hO hf 1 dX3_count_77 q2971 (Nat.le_of_ble_eq_true rfl) rfl ?_
      refine zr_iconst hO dX3_count_80 ?_
      refine zs_ild hO hf 1 (f := g) (n := 2195) (j := 0) dX3_count_81 rfl rfl rfl ((hs1.2 1 rfl).trans hg) (by omega) (by omega) rfl (fun ⟨r2a, r2b⟩ => ?_)
      exact zr_ireturn hO dX3_count_82 ⟨(by rw [if_pos c11, c21, gCt_0]), τ1, (((hs1.1 0 (by decide) (by decide)).trans rfl)), (((zCo.refl σ).uS (k := 0) (by decide) (1 - (zB (0 ≤ w ∧ w ≤ 10)))).tr hs1), hf⟩
    · refine zr_swIn hO dX3_count_21 ⟨by omega, by omega⟩ (by omega) (by omega) (off := 62) (by rw [c21]; rfl) (tgt := 83) rfl ?_
      refine zr_aload_n hO (hl := rfl) (j := 0) (hi := rfl) dX3_count_83 ?_
      refine zr_cVi hO zc_X3 zw_X3_195 (c_X3_shownMany hI hf ((hs1.2 1 rfl).trans hg) (rfl : τ1.2 21 = (τ1.2 21))  (by omega) (by omega)) dX3_count_84 (zrd_of hf.1) rfl (rest := []) rfl ⟨Nat.le_of_ble_eq_true rfl, Nat.le_of_ble_eq_true rfl⟩ (Nat.le_of_ble_eq_true rfl) (Nat.le_refl _) (Nat.le_refl _) (fun x h hx => ?_)
      obtain ⟨hx, hf⟩ := hx
      have hx : x = gshn ((τ1.2 21)) (g 0) := hx
      subst hx
      exact zr_ireturn hO dX3_count_87 ⟨(by rw [if_pos c11, c21, gCt_1]; exact gshn_of hd1.2.2 (by omega)), τ1, (((hs1.1 0 (by decide) (by decide)).trans rfl)), (((zCo.refl σ).uS (k := 0) (by decide) (1 - (zB (0 ≤ w ∧ w ≤ 10)))).tr hs1), hf⟩
    · refine zr_swIn hO dX3_count_21 ⟨by omega, by omega⟩ (by omega) (by omega) (off := 67) (by rw [c21]; rfl) (tgt := 88) rfl ?_
      refine zr_aload_n hO (hl := rfl) (j := 0) (hi := rfl) dX3_count_88 ?_
      refine zs_get hO hf 22 (x := τ1.1 22) dX3_count_89 q2992 (Nat.le_of_ble_eq_true rfl) rfl (fun ⟨r4a, r4b⟩ => ?_)
      exact zr_ireturn hO dX3_count_92 ⟨(by rw [if_pos c11, c21, gCt_2]; exact hd1.2.1.1), τ1, (((hs1.1 0 (by decide) (by decide)).trans rfl)), (((zCo.refl σ).uS (k := 0) (by decide) (1 - (zB (0 ≤ w ∧ w ≤ 10)))).tr hs1), hf⟩
    · refine zr_swIn hO dX3_count_21 ⟨by omega, by omega⟩ (by omega) (by omega) (off := 72) (by rw [c21]; rfl) (tgt := 93) rfl ?_
      refine zr_aload_n hO (hl := rfl) (j := 0) (hi := rfl) dX3_count_93 ?_
      refine zr_cVi hO zc_X3 zw_X3_224 (c_X3_foldedMany hI hf ((hs1.2 1 rfl).trans hg)  (hw) (hd1.2.1)) dX3_count_94 (zrd_of hf.1) rfl (rest := []) rfl ⟨Nat.le_of_ble_eq_true rfl, Nat.le_of_ble_eq_true rfl⟩ (Nat.le_of_ble_eq_true rfl) (Nat.le_refl _) (Nat.le_refl _) (fun x h hx => ?_)
      obtain ⟨hx, hf⟩ := hx
      have hx : x = gfm g := hx
      rw [hx]
      exact zr_ireturn hO dX3_count_97 ⟨(by rw [if_pos c11, c21, gCt_3]), τ1, (((hs1.1 0 (by decide) (by decide)).trans rfl)), (((zCo.refl σ).uS (k := 0) (by decide) (1 - (zB (0 ≤ w ∧ w ≤ 10)))).tr hs1), hf⟩
    · refine zr_swIn hO dX3_count_21 ⟨by omega, by omega⟩ (by omega) (by omega) (off := 77) (by rw [c21]; rfl) (tgt := 98) rfl ?_
      refine zr_aload_n hO (hl := rfl) (j := 0) (hi := rfl) dX3_count_98 ?_
      refine zr_cVi hO zc_X3 zw_X3_227 (c_X3_markersOnMany hI hf ((hs1.2 1 rfl).trans hg) ) dX3_count_99 (zrd_of hf.1) rfl (rest := []) rfl ⟨Nat.le_of_ble_eq_true rfl, Nat.le_of_ble_eq_true rfl⟩ (Nat.le_of_ble_eq_true rfl) (Nat.le_refl _) (Nat.le_refl _) (fun x h hx => ?_)
      obtain ⟨hx, hf⟩ := hx
      have hx : x = gmm9 g := hx
      subst hx
      exact zr_ireturn hO dX3_count_102 ⟨(by rw [if_pos c11, c21, gCt_4]), τ1, (((hs1.1 0 (by decide) (by decide)).trans rfl)), (((zCo.refl σ).uS (k := 0) (by decide) (1 - (zB (0 ≤ w ∧ w ≤ 10)))).tr hs1), hf⟩
    · refine zr_swIn hO dX3_count_21 ⟨by omega, by omega⟩ (by omega) (by omega) (off := 82) (by rw [c21]; rfl) (tgt := 103) rfl ?_
      refine zr_aload_n hO (hl := rfl) (j := 0) (hi := rfl) dX3_count_103 ?_
      refine zr_cVi hO zc_X3 zw_X3_230 (c_X3_labelsMany hI hf ((hs1.2 1 rfl).trans hg)  (hw)) dX3_count_104 (zrd_of hf.1) rfl (rest := []) rfl ⟨Nat.le_of_ble_eq_true rfl, Nat.le_of_ble_eq_true rfl⟩ (Nat.le_of_ble_eq_true rfl) (Nat.le_refl _) (Nat.le_refl _) (fun x h hx => ?_)
      obtain ⟨hx, hf⟩ := hx
      have hx : x = glm g := hx
      subst hx
      exact zr_ireturn hO dX3_count_107 ⟨(by rw [if_pos c11, c21, gCt_5]), τ1, (((hs1.1 0 (by decide) (by decide)).trans rfl)), (((zCo.refl σ).uS (k := 0) (by decide) (1 - (zB (0 ≤ w ∧ w ≤ 10)))).tr hs1), hf⟩
    · refine zr_swIn hO dX3_count_21 ⟨by omega, by omega⟩ (by omega) (by omega) (off := 87) (by rw [c21]; rfl) (tgt := 108) rfl ?_
      refine zr_aload_n hO (hl := rfl) (j := 0) (hi := rfl) dX3_count_108 ?_
      refine zr_cVi hO zc_X3 zw_X3_233 (c_X3_referencesMany hI hf ((hs1.2 1 rfl).trans hg)  (hw)) dX3_count_109 (zrd_of hf.1) rfl (rest := []) rfl ⟨Nat.le_of_ble_eq_true rfl, Nat.le_of_ble_eq_true rfl⟩ (Nat.le_of_ble_eq_true rfl) (Nat.le_refl _) (Nat.le_refl _) (fun x h hx => ?_)
      obtain ⟨hx, hf⟩ := hx
      have hx : x = grm g := hx
      subst hx
      exact zr_ireturn hO dX3_count_112 ⟨(by rw [if_pos c11, c21, gCt_6]), τ1, (((hs1.1 0 (by decide) (by decide)).trans rfl)), (((zCo.refl σ).uS (k := 0) (by decide) (1 - (zB (0 ≤ w ∧ w ≤ 10)))).tr hs1), hf⟩
    · refine zr_swIn hO dX3_count_21 ⟨by omega, by omega⟩ (by omega) (by omega) (off := 92) (by rw [c21]; rfl) (tgt := 113) rfl ?_
      refine zr_aload_n hO (hl := rfl) (j := 0) (hi := rfl) dX3_count_113 ?_
      refine zs_get hO hf 23 (x := τ1.1 23) dX3_count_114 q2993 (Nat.le_of_ble_eq_true rfl) rfl (fun ⟨r9a, r9b⟩ => ?_)
      exact zr_ireturn hO dX3_count_117 ⟨(by rw [if_pos c11, c21, gCt_7]; exact hd1.1.2), τ1, (((hs1.1 0 (by decide) (by decide)).trans rfl)), (((zCo.refl σ).uS (k := 0) (by decide) (1 - (zB (0 ≤ w ∧ w ≤ 10)))).tr hs1), hf⟩
    · refine zr_swIn hO dX3_count_21 ⟨by omega, by omega⟩ (by omega) (by omega) (off := 97) (by rw [c21]; rfl) (tgt := 118) rfl ?_
      refine zr_aload_n hO (hl := rfl) (j := 0) (hi := rfl) dX3_count_118 ?_
      refine zs_arr hO hf 1 dX3_count_119 q2971 (Nat.le_of_ble_eq_true rfl) rfl ?_
      refine zr_iconst hO dX3_count_122 ?_
      refine zs_ild hO hf 1 (f := g) (n := 2195) (j := 3) dX3_count_123 rfl rfl rfl ((hs1.2 1 rfl).trans hg) (by omega) (by omega) rfl (fun ⟨r10a, r10b⟩ => ?_)
      exact zr_ireturn hO dX3_count_124 ⟨(by rw [if_pos c11, c21, gCt_8]), τ1, (((hs1.1 0 (by decide) (by decide)).trans rfl)), (((zCo.refl σ).uS (k := 0) (by decide) (1 - (zB (0 ≤ w ∧ w ≤ 10)))).tr hs1), hf⟩
    · refine zr_swIn hO dX3_count_21 ⟨by omega, by omega⟩ (by omega) (by omega) (off := 104) (by rw [c21]; rfl) (tgt := 125) rfl ?_
      refine zr_aload_n hO (hl := rfl) (j := 0) (hi := rfl) dX3_count_125 ?_
      refine zs_arr hO hf 1 dX3_count_126 q2971 (Nat.le_of_ble_eq_true rfl) rfl ?_
      refine zr_iconst hO dX3_count_129 ?_
      refine zs_ild hO hf 1 (f := g) (n := 2195) (j := 4) dX3_count_130 rfl rfl rfl ((hs1.2 1 rfl).trans hg) (by omega) (by omega) rfl (fun ⟨r11a, r11b⟩ => ?_)
      exact zr_ireturn hO dX3_count_131 ⟨(by rw [if_pos c11, c21, gCt_9]), τ1, (((hs1.1 0 (by decide) (by decide)).trans rfl)), (((zCo.refl σ).uS (k := 0) (by decide) (1 - (zB (0 ≤ w ∧ w ≤ 10)))).tr hs1), hf⟩
    · refine zr_swOut hO dX3_count_21 ⟨by omega, by omega⟩ (Or.inl c21) (tgt := 132) rfl ?_
      refine zr_aload_n hO (hl := rfl) (j := 0) (hi := rfl) dX3_count_132 ?_
      refine zs_arr hO hf 1 dX3_count_133 q2971 (Nat.le_of_ble_eq_true rfl) rfl ?_
      refine zr_iconst hO dX3_count_136 ?_
      refine zs_ild hO hf 1 (f := g) (n := 2195) (j := 1) dX3_count_137 rfl rfl rfl ((hs1.2 1 rfl).trans hg) (by omega) (by omega) rfl (fun ⟨r12a, r12b⟩ => ?_)
      exact zr_ireturn hO dX3_count_138 ⟨(by rw [if_pos c11, gCt_10 g (by omega)]), τ1, (((hs1.1 0 (by decide) (by decide)).trans rfl)), (((zCo.refl σ).uS (k := 0) (by decide) (1 - (zB (0 ≤ w ∧ w ≤ 10)))).tr hs1), hf⟩
    · refine zr_swOut hO dX3_count_21 ⟨by omega, by omega⟩ (Or.inr c21) (tgt := 132) rfl ?_
      refine zr_aload_n hO (hl := rfl) (j := 0) (hi := rfl) dX3_count_132 ?_
      refine zs_arr hO hf 1 dX3_count_133 q2971 (Nat.le_of_ble_eq_true rfl) rfl ?_
      refine zr_iconst hO dX3_count_136 ?_
      refine zs_ild hO hf 1 (f := g) (n := 2195) (j := 1) dX3_count_137 rfl rfl rfl ((hs1.2 1 rfl).trans hg) (by omega) (by omega) rfl (fun ⟨r13a, r13b⟩ => ?_)
      exact zr_ireturn hO dX3_count_138 ⟨(by rw [if_pos c11, gCt_10 g (by omega)]), τ1, (((hs1.1 0 (by decide) (by decide)).trans rfl)), (((zCo.refl σ).uS (k := 0) (by decide) (1 - (zB (0 ≤ w ∧ w ≤ 10)))).tr hs1), hf⟩
  · skip
    have c11 := zB_eq c11
    refine zr_iconst hO dX3_count_14 ?_
    exact zr_ireturn hO dX3_count_15 ⟨(by rw [if_neg c11]), (zuS σ 0 (1 - (zB (0 ≤ w ∧ w ≤ 10)))), (rfl), ((zCo.refl σ).uS (k := 0) (by decide) (1 - (zB (0 ≤ w ∧ w ≤ 10)))), hf⟩
