/-! THE REFERENCE: mates (printed by gen/refs.py) -/
theorem zw_X3_142 : zYs RX3 142 yX3_place cX3_place 2 (some Jvm.ClassFile.FieldType.int) 2 := ⟨q3147, q3148, q116, q3149, ⟨by decide +kernel, by decide +kernel, by decide +kernel⟩⟩
theorem c_X3_laysMates {G : zG} {r : Nat} {ad : Nat → Nat} {h0 : zHp} (hI : zRI r ad) {σ : zS} {h : zHp} (hf : zRf r ad σ h0 h) {g : Nat → Int} (hg : σ.2 1 = g) (hw : zwf g) : zC G yX3_laysMates cX3_laysMates 5 none 3 64 0 0 [zp r] h (zPv (fun h' => ∃ τ : zS, zSm σ τ ∧ zMt g τ ∧ zRf r ad τ h0 h') zNo) := by
  refine zC.of zpn_X3 (Nat.le_of_ble_eq_true rfl) (L := [(0, zp r)]) rfl (fun K hO => ?_)
  obtain ⟨w1, w2, w3⟩ := id hw
  refine zr_iconst hO dX3_laysMates_0 ?_
  refine zr_istore_n hO (L' := [(1, zi 0), (0, zp r)]) (hi := rfl) dX3_laysMates_1 (Nat.le_of_ble_eq_true rfl) rfl ?_
  refine zr_aload_n hO (hl := rfl) (j := 1) (hi := rfl) dX3_laysMates_2 ?_
  refine zr_iconst hO dX3_laysMates_3 ?_
  refine zs_put hO hI hf 23 dX3_laysMates_4 q2993 (Nat.le_of_ble_eq_true rfl) rfl rfl rfl ⟨by omega, by omega⟩ (fun h hf => ?_)
  refine zr_iconst hO dX3_laysMates_7 ?_
  refine zr_istore_n hO (L' := [(2, zi 1), (1, zi 0), (0, zp r)]) (hi := rfl) dX3_laysMates_8 (Nat.le_of_ble_eq_true rfl) rfl ?_
  have hl9 : ∀ (n9 : Nat) (τ : zS) (n t : Int), (g 0 + 1 - n).toNat = n9 → ∀ (i1 : 1 ≤ n) (i2 : n ≤ g 0 + 1) (hs : zSm σ τ) (hm : zML g (24 * (n - 1)).toNat (τ.2 11) (τ.2 12) t (τ.1 23)) (h : zHp) (hf : zRf r ad τ h0 h), zV G K 0 0 h 9 [(0, zp r), (1, zi t), (2, zi n)] [] := by
    intro n9
    induction n9 using Nat.strongRecOn with
    | _ n9 ih9 =>
    intro τ n t hn9 i1 i2 hs hm h hf
    have hin := zML_in hm
    refine zr_iload_n hO (hl := rfl) (j := 2) (hi := rfl) dX3_laysMates_9 ?_
    refine zr_aload_n hO (hl := rfl) (j := 0) (hi := rfl) dX3_laysMates_10 ?_
    refine zs_arr hO hf 1 dX3_laysMates_11 q2971 (Nat.le_of_ble_eq_true rfl) rfl ?_
    refine zr_iconst hO dX3_laysMates_14 ?_
    refine zs_ild hO hf 1 (f := g) (n := 2195) (j := 0) dX3_laysMates_15 rfl rfl rfl ((hs.2 1 rfl).trans hg) (by omega) (by omega) rfl (fun ⟨r1a, r1b⟩ => ?_)
    refine zr_icmp_gt hO ⟨by omega, by omega⟩ ⟨by omega, by omega⟩ (tgt := 150) dX3_laysMates_16 rfl (fun c16 => ?_) (fun c16 => ?_)
    · skip
      refine zr_aload_n hO (hl := rfl) (j := 0) (hi := rfl) dX3_laysMates_150 ?_
      refine zr_dup hO rfl dX3_laysMates_151 ?_
      refine zs_get hO hf 23 (x := τ.1 23) dX3_laysMates_152 q2993 (Nat.le_of_ble_eq_true rfl) rfl (fun ⟨r2a, r2b⟩ => ?_)
      refine zr_iload_n hO (hl := rfl) (j := 1) (hi := rfl) dX3_laysMates_155 ?_
      refine zr_iadd hO dX3_laysMates_156 ?_
      refine zs_put hO hI hf 23 dX3_laysMates_157 q2993 (Nat.le_of_ble_eq_true rfl) rfl rfl rfl ⟨by omega, by omega⟩ (fun h hf => ?_)
      exact zr_return hO dX3_laysMates_160 ⟨_, hs.uS (Or.inr rfl) _, zMt_of hw (by omega) (by omega) hm rfl rfl, hf⟩
    · skip
      have hwn := w3 n (by omega) (by omega)
      refine zr_iconst hO dX3_laysMates_19 ?_
      refine zr_istore_n hO (L' := [(3, zi 0), (0, zp r), (1, zi t), (2, zi n)]) (hi := rfl) dX3_laysMates_20 (Nat.le_of_ble_eq_true rfl) rfl ?_
      have hl21 : ∀ (n9 : Nat) (τ : zS) (i t : Int), (gln g n - i).toNat = n9 → ∀ (j1 : 0 ≤ i) (j2 : i ≤ gln g n) (hs : zSm σ τ) (hm : zML g (24 * (n - 1) + i).toNat (τ.2 11) (τ.2 12) t (τ.1 23)) (h : zHp) (hf : zRf r ad τ h0 h), zV G K 0 0 h 21 [(0, zp r), (1, zi t), (2, zi n), (3, zi i)] [] := by
        intro n9
        induction n9 using Nat.strongRecOn with
        | _ n9 ih21 =>
        intro τ i t hn21 j1 j2 hs hm h hf
        have hin := zML_in hm
        refine zr_iload_n hO (hl := rfl) (j := 3) (hi := rfl) dX3_laysMates_21 ?_
        refine zr_aload_n hO (hl := rfl) (j := 0) (hi := rfl) dX3_laysMates_22 ?_
        refine zr_iload_n hO (hl := rfl) (j := 2) (hi := rfl) dX3_laysMates_23 ?_
        refine zr_cVi hO zc_X3 zw_X3_139 (c_X3_length hI hf ((hs.2 1 rfl).trans hg) n (by omega) (by omega)) dX3_laysMates_24 (zrd_of hf.1) rfl (rest := [zi i]) rfl ⟨Nat.le_of_ble_eq_true rfl, Nat.le_of_ble_eq_true rfl⟩ (Nat.le_of_ble_eq_true rfl) (Nat.le_refl _) (Nat.le_refl _) (fun x h hx => ?_)
        obtain ⟨hx, ⟨r3a, r3b⟩, hf⟩ := hx
        have hx : x = gln g n := hx
        subst hx
        refine zr_icmp_ge hO ⟨by omega, by omega⟩ ⟨by omega, by omega⟩ (tgt := 144) dX3_laysMates_27 rfl (fun c27 => ?_) (fun c27 => ?_)
        · skip
          refine zr_iinc hO (L' := [(2, zi (n + 1)), (0, zp r), (1, zi t), (3, zi i)]) (j := 2) dX3_laysMates_144 rfl (Nat.le_of_ble_eq_true rfl) rfl ?_
          refine zr_goto hO (tgt := 9) dX3_laysMates_147 rfl ?_
          refine zV.loc [1, 2, 0] rfl ?_
          exact ih9 _ (by omega) τ (n + 1) t rfl (by omega) (by omega) (hs) (zML_to hm (by omega) (fun j a b => gpc_off i1 (by omega) (by omega) (by omega))) h hf
        · skip
          have hpc : gpc g (24 * (n - 1) + i).toNat = gch g n i := gpc_in (by omega) (by omega) (by omega) (by omega) (by omega)
          refine zr_iload_n hO (hl := rfl) (j := 2) (hi := rfl) dX3_laysMates_30 ?_
          refine zr_iload_n hO (hl := rfl) (j := 3) (hi := rfl) dX3_laysMates_31 ?_
          refine zr_cSi hO zw_X3_142 (c_X3_place n i) dX3_laysMates_32 rfl (rest := []) rfl ⟨Nat.le_of_ble_eq_true rfl, Nat.le_of_ble_eq_true rfl⟩ (Nat.le_of_ble_eq_true rfl) (Nat.le_refl _) (Nat.le_refl _) (fun x h hx => ?_)
          obtain ⟨hx, rfl⟩ := hx
          have hx : x = 24 * (n - 1) + i := hx
          subst hx
          refine zr_istore hO (L' := [(4, zi (24 * (n - 1) + i)), (0, zp r), (1, zi t), (2, zi n), (3, zi i)]) dX3_laysMates_35 (Nat.le_of_ble_eq_true rfl) rfl ?_
          refine zr_aload_n hO (hl := rfl) (j := 1) (hi := rfl) dX3_laysMates_37 ?_
          refine zs_arr hO hf 11 dX3_laysMates_38 q2981 (Nat.le_of_ble_eq_true rfl) rfl ?_
          refine zr_iload hO (hl := rfl) (j := 0) dX3_laysMates_41 ?_
          refine zr_iconst hO dX3_laysMates_43 ?_
          refine zs_ist hO hI hf 11 (f := τ.2 11) (n := 1920) (j := (24 * (n - 1) + i).toNat) dX3_laysMates_44 rfl rfl rfl rfl (by omega) (by omega) rfl ⟨by omega, by omega⟩ (fun h hf => ?_)
          refine zr_aload_n hO (hl := rfl) (j := 1) (hi := rfl) dX3_laysMates_45 ?_
          refine zr_iload_n hO (hl := rfl) (j := 3) (hi := rfl) dX3_laysMates_46 ?_
          refine zr_iload_n hO (hl := rfl) (j := 4) (hi := rfl) dX3_laysMates_47 ?_
          refine zr_cVi hO zc_X3 zw_X3_133 (c_X3_byteAt hI hf ((hs.2 1 rfl).trans hg) n i (by omega) (by omega) (by omega) (by omega)) dX3_laysMates_48 (zrd_of hf.1) rfl (rest := []) rfl ⟨Nat.le_of_ble_eq_true rfl, Nat.le_of_ble_eq_true rfl⟩ (Nat.le_of_ble_eq_true rfl) (Nat.le_refl _) (Nat.le_refl _) (fun x h hx => ?_)
          obtain ⟨hx, ⟨r4a, r4b⟩, hf⟩ := hx
          have hx : x = gch g n i := hx
          subst hx
          refine zr_bipush hO (by decide) dX3_laysMates_51 ?_
          refine zr_icmp_ne hO ⟨by omega, by omega⟩ ⟨by omega, by omega⟩ (tgt := 70) dX3_laysMates_53 rfl (fun c53 => ?_) (fun c53 => ?_)
          · skip
            refine zr_aload_n hO (hl := rfl) (j := 1) (hi := rfl) dX3_laysMates_70 ?_
            refine zr_iload_n hO (hl := rfl) (j := 3) (hi := rfl) dX3_laysMates_71 ?_
            refine zr_iload_n hO (hl := rfl) (j := 4) (hi := rfl) dX3_laysMates_72 ?_
            refine zr_cVi hO zc_X3 zw_X3_133 (c_X3_byteAt hI hf ((hs.2 1 rfl).trans hg) n i (by omega) (by omega) (by omega) (by omega)) dX3_laysMates_73 (zrd_of hf.1) rfl (rest := []) rfl ⟨Nat.le_of_ble_eq_true rfl, Nat.le_of_ble_eq_true rfl⟩ (Nat.le_of_ble_eq_true rfl) (Nat.le_refl _) (Nat.le_refl _) (fun x h hx => ?_)
            obtain ⟨hx, ⟨r5a, r5b⟩, hf⟩ := hx
            have hx : x = gch g n i := hx
            subst hx
            refine zr_bipush hO (by decide) dX3_laysMates_76 ?_
            refine zr_icmp_ne hO ⟨by omega, by omega⟩ ⟨by omega, by omega⟩ (tgt := 117) dX3_laysMates_78 rfl (fun c78 => ?_) (fun c78 => ?_)
            · skip
              refine zr_aload_n hO (hl := rfl) (j := 1) (hi := rfl) dX3_laysMates_117 ?_
              refine zr_iload_n hO (hl := rfl) (j := 3) (hi := rfl) dX3_laysMates_118 ?_
              refine zr_iload_n hO (hl := rfl) (j := 4) (hi := rfl) dX3_laysMates_119 ?_
              refine zr_cVi hO zc_X3 zw_X3_133 (c_X3_byteAt hI hf ((hs.2 1 rfl).trans hg) n i (by omega) (by omega) (by omega) (by omega)) dX3_laysMates_120 (zrd_of hf.1) rfl (rest := []) rfl ⟨Nat.le_of_ble_eq_true rfl, Nat.le_of_ble_eq_true rfl⟩ (Nat.le_of_ble_eq_true rfl) (Nat.le_refl _) (Nat.le_refl _) (fun x h hx => ?_)
              obtain ⟨hx, ⟨r6a, r6b⟩, hf⟩ := hx
              have hx : x = gch g n i := hx
              subst hx
              refine zr_bipush hO (by decide) dX3_laysMates_123 ?_
              refine zr_icmp_ne hO ⟨by omega, by omega⟩ ⟨by omega, by omega⟩ (tgt := 138) dX3_laysMates_125 rfl (fun c125 => ?_) (fun c125 => ?_)
              · skip
                refine zr_iinc hO (L' := [(3, zi (i + 1)), (4, zi (24 * (n - 1) + i)), (0, zp r), (1, zi t), (2, zi n)]) (j := 4) dX3_laysMates_138 rfl (Nat.le_of_ble_eq_true rfl) rfl ?_
                refine zr_goto hO (tgt := 21) dX3_laysMates_141 rfl ?_
                refine zV.loc [2, 3, 4, 0] rfl ?_
                exact ih21 _ (by omega) (zuA τ 11 (zset (τ.2 11) ((24 * (n - 1) + i).toNat) (-1))) (i + 1) t rfl (by omega) (by omega) ((hs.uA (k := 11) rfl (zset (τ.2 11) ((24 * (n - 1) + i).toNat) (-1)))) (by rw [show (24 * (n - 1) + (i + 1)).toNat = (24 * (n - 1) + i).toNat + 1 by omega]; first | exact zML_skip1 hm (by omega) (by omega) (fun q a => zset_n (by omega)) | exact zML_open hm (by omega) (by omega) | exact zML_close hm (by omega) (by omega) (by omega) (by omega) | exact zML_lost hm (by omega) (by omega)) h hf
              · skip
                refine zr_aload_n hO (hl := rfl) (j := 1) (hi := rfl) dX3_laysMates_128 ?_
                refine zr_dup hO rfl dX3_laysMates_129 ?_
                refine zs_get hO hf 23 (x := τ.1 23) dX3_laysMates_130 q2993 (Nat.le_of_ble_eq_true rfl) rfl (fun ⟨r7a, r7b⟩ => ?_)
                refine zr_iconst hO dX3_laysMates_133 ?_
                refine zr_iadd hO dX3_laysMates_134 ?_
                refine zs_put hO hI hf 23 dX3_laysMates_135 q2993 (Nat.le_of_ble_eq_true rfl) rfl rfl rfl ⟨by omega, by omega⟩ (fun h hf => ?_)
                refine zr_iinc hO (L' := [(3, zi (i + 1)), (4, zi (24 * (n - 1) + i)), (0, zp r), (1, zi t), (2, zi n)]) (j := 4) dX3_laysMates_138 rfl (Nat.le_of_ble_eq_true rfl) rfl ?_
                refine zr_goto hO (tgt := 21) dX3_laysMates_141 rfl ?_
                refine zV.loc [2, 3, 4, 0] rfl ?_
                exact ih21 _ (by omega) (zuS (zuA τ 11 (zset (τ.2 11) ((24 * (n - 1) + i).toNat) (-1))) 23 ((τ.1 23) + 1)) (i + 1) t rfl (by omega) (by omega) (((hs.uA (k := 11) rfl (zset (τ.2 11) ((24 * (n - 1) + i).toNat) (-1))).uS (Or.inr rfl) ((τ.1 23) + 1))) (by rw [show (24 * (n - 1) + (i + 1)).toNat = (24 * (n - 1) + i).toNat + 1 by omega]; first | exact zML_skip1 hm (by omega) (by omega) (fun q a => zset_n (by omega)) | exact zML_open hm (by omega) (by omega) | exact zML_close hm (by omega) (by omega) (by omega) (by omega) | exact zML_lost hm (by omega) (by omega)) h hf
            · skip
              refine zr_iload_n hO (hl := rfl) (j := 2) (hi := rfl) dX3_laysMates_81 ?_
              refine zr_if_le hO ⟨by omega, by omega⟩ (tgt := 117) dX3_laysMates_82 rfl (fun c82 => ?_) (fun c82 => ?_)
              · skip
                refine zr_aload_n hO (hl := rfl) (j := 1) (hi := rfl) dX3_laysMates_117 ?_
                refine zr_iload_n hO (hl := rfl) (j := 3) (hi := rfl) dX3_laysMates_118 ?_
                refine zr_iload_n hO (hl := rfl) (j := 4) (hi := rfl) dX3_laysMates_119 ?_
                refine zr_cVi hO zc_X3 zw_X3_133 (c_X3_byteAt hI hf ((hs.2 1 rfl).trans hg) n i (by omega) (by omega) (by omega) (by omega)) dX3_laysMates_120 (zrd_of hf.1) rfl (rest := []) rfl ⟨Nat.le_of_ble_eq_true rfl, Nat.le_of_ble_eq_true rfl⟩ (Nat.le_of_ble_eq_true rfl) (Nat.le_refl _) (Nat.le_refl _) (fun x h hx => ?_)
                obtain ⟨hx, ⟨r8a, r8b⟩, hf⟩ := hx
                have hx : x = gch g n i := hx
                subst hx
                refine zr_bipush hO (by decide) dX3_laysMates_123 ?_
                refine zr_icmp_ne hO ⟨by omega, by omega⟩ ⟨by omega, by omega⟩ (tgt := 138) dX3_laysMates_125 rfl (fun c125 => ?_) (fun c125 => ?_)
                · skip
                  refine zr_iinc hO (L' := [(3, zi (i + 1)), (4, zi (24 * (n - 1) + i)), (0, zp r), (1, zi t), (2, zi n)]) (j := 4) dX3_laysMates_138 rfl (Nat.le_of_ble_eq_true rfl) rfl ?_
                  refine zr_goto hO (tgt := 21) dX3_laysMates_141 rfl ?_
                  refine zV.loc [2, 3, 4, 0] rfl ?_
                  exact ih21 _ (by omega) (zuA τ 11 (zset (τ.2 11) ((24 * (n - 1) + i).toNat) (-1))) (i + 1) t rfl (by omega) (by omega) ((hs.uA (k := 11) rfl (zset (τ.2 11) ((24 * (n - 1) + i).toNat) (-1)))) (by rw [show (24 * (n - 1) + (i + 1)).toNat = (24 * (n - 1) + i).toNat + 1 by omega]; first | exact zML_skip1 hm (by omega) (by omega) (fun q a => zset_n (by omega)) | exact zML_open hm (by omega) (by omega) | exact zML_close hm (by omega) (by omega) (by omega) (by omega) | exact zML_lost hm (by omega) (by omega)) h hf
                · skip
                  refine zr_aload_n hO (hl := rfl) (j := 1) (hi := rfl) dX3_laysMates_128 ?_
                  refine zr_dup hO rfl dX3_laysMates_129 ?_
                  refine zs_get hO hf 23 (x := τ.1 23) dX3_laysMates_130 q2993 (Nat.le_of_ble_eq_true rfl) rfl (fun ⟨r9a, r9b⟩ => ?_)
                  refine zr_iconst hO dX3_laysMates_133 ?_
                  refine zr_iadd hO dX3_laysMates_134 ?_
                  refine zs_put hO hI hf 23 dX3_laysMates_135 q2993 (Nat.le_of_ble_eq_true rfl) rfl rfl rfl ⟨by omega, by omega⟩ (fun h hf => ?_)
                  refine zr_iinc hO (L' := [(3, zi (i + 1)), (4, zi (24 * (n - 1) + i)), (0, zp r), (1, zi t), (2, zi n)]) (j := 4) dX3_laysMates_138 rfl (Nat.le_of_ble_eq_true rfl) rfl ?_
                  refine zr_goto hO (tgt := 21) dX3_laysMates_141 rfl ?_
                  refine zV.loc [2, 3, 4, 0] rfl ?_
                  exact ih21 _ (by omega) (zuS (zuA τ 11 (zset (τ.2 11) ((24 * (n - 1) + i).toNat) (-1))) 23 ((τ.1 23) + 1)) (i + 1) t rfl (by omega) (by omega) (((hs.uA (k := 11) rfl (zset (τ.2 11) ((24 * (n - 1) + i).toNat) (-1))).uS (Or.inr rfl) ((τ.1 23) + 1))) (by rw [show (24 * (n - 1) + (i + 1)).toNat = (24 * (n - 1) + i).toNat + 1 by omega]; first | exact zML_skip1 hm (by omega) (by omega) (fun q a => zset_n (by omega)) | exact zML_open hm (by omega) (by omega) | exact zML_close hm (by omega) (by omega) (by omega) (by omega) | exact zML_lost hm (by omega) (by omega)) h hf
              · skip
                refine zr_iinc hO (L' := [(1, zi (t + (-1))), (4, zi (24 * (n - 1) + i)), (0, zp r), (2, zi n), (3, zi i)]) (j := 2) dX3_laysMates_85 rfl (Nat.le_of_ble_eq_true rfl) rfl ?_
                obtain ⟨tq, ts, hk1, hk2, hk3, hk4⟩ := zML_peek hm (t' := t + (-1)) (by omega) (by omega)
                refine zr_aload_n hO (hl := rfl) (j := 2) (hi := rfl) dX3_laysMates_88 ?_
                refine zs_arr hO hf 11 dX3_laysMates_89 q2981 (Nat.le_of_ble_eq_true rfl) rfl ?_
                refine zr_iload hO (hl := rfl) (j := 1) dX3_laysMates_92 ?_
                refine zr_aload_n hO (hl := rfl) (j := 2) (hi := rfl) dX3_laysMates_94 ?_
                refine zs_arr hO hf 12 dX3_laysMates_95 q2982 (Nat.le_of_ble_eq_true rfl) rfl ?_
                refine zr_iload_n hO (hl := rfl) (j := 0) (hi := rfl) dX3_laysMates_98 ?_
                refine zs_ild hO hf 12 (f := τ.2 12) (n := 1920) (j := (t + (-1)).toNat) dX3_laysMates_99 rfl rfl rfl rfl (by omega) (by omega) rfl (fun ⟨r10a, r10b⟩ => ?_)
                refine zs_ist hO hI hf 11 (f := zset (τ.2 11) ((24 * (n - 1) + i).toNat) (-1)) (n := 1920) (j := (24 * (n - 1) + i).toNat) dX3_laysMates_100 rfl rfl rfl rfl (by omega) (by omega) rfl ⟨by omega, by omega⟩ (fun h hf => ?_)
                refine zr_aload_n hO (hl := rfl) (j := 2) (hi := rfl) dX3_laysMates_101 ?_
                refine zs_arr hO hf 11 dX3_laysMates_102 q2981 (Nat.le_of_ble_eq_true rfl) rfl ?_
                refine zr_aload_n hO (hl := rfl) (j := 2) (hi := rfl) dX3_laysMates_105 ?_
                refine zs_arr hO hf 12 dX3_laysMates_106 q2982 (Nat.le_of_ble_eq_true rfl) rfl ?_
                refine zr_iload_n hO (hl := rfl) (j := 0) (hi := rfl) dX3_laysMates_109 ?_
                refine zs_ild hO hf 12 (f := τ.2 12) (n := 1920) (j := (t + (-1)).toNat) dX3_laysMates_110 rfl rfl rfl rfl (by omega) (by omega) rfl (fun ⟨r11a, r11b⟩ => ?_)
                refine zr_iload hO (hl := rfl) (j := 1) dX3_laysMates_111 ?_
                refine zs_ist hO hI hf 11 (f := zset (zset (τ.2 11) ((24 * (n - 1) + i).toNat) (-1)) ((24 * (n - 1) + i).toNat) ((τ.2 12) ((t + (-1)).toNat))) (n := 1920) (j := ((τ.2 12) ((t + (-1)).toNat)).toNat) dX3_laysMates_113 rfl rfl rfl rfl (by omega) (by omega) rfl ⟨by omega, by omega⟩ (fun h hf => ?_)
                refine zr_goto hO (tgt := 138) dX3_laysMates_114 rfl ?_
                refine zr_iinc hO (L' := [(3, zi (i + 1)), (1, zi (t + (-1))), (4, zi (24 * (n - 1) + i)), (0, zp r), (2, zi n)]) (j := 4) dX3_laysMates_138 rfl (Nat.le_of_ble_eq_true rfl) rfl ?_
                refine zr_goto hO (tgt := 21) dX3_laysMates_141 rfl ?_
                refine zV.loc [3, 1, 4, 0] rfl ?_
                exact ih21 _ (by omega) (zuA (zuA (zuA τ 11 (zset (τ.2 11) ((24 * (n - 1) + i).toNat) (-1))) 11 (zset (zset (τ.2 11) ((24 * (n - 1) + i).toNat) (-1)) ((24 * (n - 1) + i).toNat) ((τ.2 12) ((t + (-1)).toNat)))) 11 (zset (zset (zset (τ.2 11) ((24 * (n - 1) + i).toNat) (-1)) ((24 * (n - 1) + i).toNat) ((τ.2 12) ((t + (-1)).toNat))) (((τ.2 12) ((t + (-1)).toNat)).toNat) (24 * (n - 1) + i))) (i + 1) (t + (-1)) rfl (by omega) (by omega) ((((hs.uA (k := 11) rfl (zset (τ.2 11) ((24 * (n - 1) + i).toNat) (-1))).uA (k := 11) rfl (zset (zset (τ.2 11) ((24 * (n - 1) + i).toNat) (-1)) ((24 * (n - 1) + i).toNat) ((τ.2 12) ((t + (-1)).toNat)))).uA (k := 11) rfl (zset (zset (zset (τ.2 11) ((24 * (n - 1) + i).toNat) (-1)) ((24 * (n - 1) + i).toNat) ((τ.2 12) ((t + (-1)).toNat))) (((τ.2 12) ((t + (-1)).toNat)).toNat) (24 * (n - 1) + i)))) (by rw [show (24 * (n - 1) + (i + 1)).toNat = (24 * (n - 1) + i).toNat + 1 by omega]; first | exact zML_skip1 hm (by omega) (by omega) (fun q a => zset_n (by omega)) | exact zML_open hm (by omega) (by omega) | exact zML_close hm (by omega) (by omega) (by omega) (by omega) | exact zML_lost hm (by omega) (by omega)) h hf
          · skip
            refine zr_aload_n hO (hl := rfl) (j := 1) (hi := rfl) dX3_laysMates_56 ?_
            refine zs_arr hO hf 12 dX3_laysMates_57 q2982 (Nat.le_of_ble_eq_true rfl) rfl ?_
            refine zr_iload_n hO (hl := rfl) (j := 2) (hi := rfl) dX3_laysMates_60 ?_
            refine zr_iload hO (hl := rfl) (j := 0) dX3_laysMates_61 ?_
            refine zs_ist hO hI hf 12 (f := τ.2 12) (n := 1920) (j := t.toNat) dX3_laysMates_63 rfl rfl rfl rfl (by omega) (by omega) rfl ⟨by omega, by omega⟩ (fun h hf => ?_)
            refine zr_iinc hO (L' := [(1, zi (t + 1)), (4, zi (24 * (n - 1) + i)), (0, zp r), (2, zi n), (3, zi i)]) (j := 2) dX3_laysMates_64 rfl (Nat.le_of_ble_eq_true rfl) rfl ?_
            refine zr_goto hO (tgt := 138) dX3_laysMates_67 rfl ?_
            refine zr_iinc hO (L' := [(3, zi (i + 1)), (1, zi (t + 1)), (4, zi (24 * (n - 1) + i)), (0, zp r), (2, zi n)]) (j := 4) dX3_laysMates_138 rfl (Nat.le_of_ble_eq_true rfl) rfl ?_
            refine zr_goto hO (tgt := 21) dX3_laysMates_141 rfl ?_
            refine zV.loc [3, 1, 4, 0] rfl ?_
            exact ih21 _ (by omega) (zuA (zuA τ 11 (zset (τ.2 11) ((24 * (n - 1) + i).toNat) (-1))) 12 (zset (τ.2 12) t.toNat (24 * (n - 1) + i))) (i + 1) (t + 1) rfl (by omega) (by omega) (((hs.uA (k := 11) rfl (zset (τ.2 11) ((24 * (n - 1) + i).toNat) (-1))).uA (k := 12) rfl (zset (τ.2 12) t.toNat (24 * (n - 1) + i)))) (by rw [show (24 * (n - 1) + (i + 1)).toNat = (24 * (n - 1) + i).toNat + 1 by omega]; first | exact zML_skip1 hm (by omega) (by omega) (fun q a => zset_n (by omega)) | exact zML_open hm (by omega) (by omega) | exact zML_close hm (by omega) (by omega) (by omega) (by omega) | exact zML_lost hm (by omega) (by omega)) h hf
      refine zV.loc [1, 2, 3, 0] rfl ?_
      exact hl21 _ τ 0 t rfl (by omega) (by omega) (hs) (by rw [Int.add_zero]; exact hm) h hf
  refine zV.loc [2, 1, 0] rfl ?_
  exact hl9 _ (zuS σ 23 0) 1 0 rfl (by omega) (by omega) (((zSm.refl σ).uS (Or.inr rfl) 0)) (zML_0 g _ _) h hf
