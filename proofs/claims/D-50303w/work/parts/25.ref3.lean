/-! THE REFERENCE: regions, what is hidden (printed by gen/refs.py) -/
theorem zSm2 {σ τ : zS} (hA : ∀ k, k ≠ 20 → k ≠ 21 → τ.2 k = σ.2 k) (hB : ∀ k, τ.1 k = σ.1 k) : zSm σ τ := ⟨fun k _ _ => hB k, fun k hk => hA k (fun z => by rw [z] at hk; cases hk) (fun z => by rw [z] at hk; cases hk)⟩
theorem c_X3_opensRegion {G : zG} {r : Nat} {ad : Nat → Nat} {h0 : zHp} (hI : zRI r ad) {σ : zS} {h : zHp} (hf : zRf r ad σ h0 h) {mt : Nat → Int} (hmt : σ.2 11 = mt) {Kt : Nat → Int} (hKt : σ.2 12 = Kt) {F : Nat → Int} (hF : σ.2 14 = F) {M : Nat → Int} (hM : σ.2 15 = M) {Of : Nat → Int} (hOf : σ.2 16 = Of) {S : Nat → Int} (hS : σ.2 17 = S) {V : Nat → Int} (hV : σ.2 18 = V) {A : Nat → Int} (hA : σ.2 19 = A) {q : Int} (hq : σ.1 22 = q) (p : Int) (t : Int) (h1 : 0 ≤ p) (h2 : p < 1920) (h3 : 0 ≤ q) (h4 : q < 960) (h5 : 0 ≤ t) (h6 : t < 1920) (h7 : 0 ≤ mt p.toNat) (h8 : mt p.toNat < 1920) : zC G yX3_opensRegion cX3_opensRegion 3 none 1 20 0 0 [zp r, zi p, zi t] h (zPv (fun h' => zRf r ad (zuS (zuA (zuA (zuA (zuA (zuA (zuA (zuA σ 14 (zset F q.toNat (p / 24 + 1))) 15 (zset M q.toNat (mt p.toNat / 24 + 1))) 16 (zset Of q.toNat (p % 24))) 17 (zset S q.toNat (mt p.toNat % 24))) 18 (zset V q.toNat t)) 19 (zset A q.toNat (if t = 0 then -1 else Kt (t - 1).toNat))) 12 (zset Kt t.toNat q)) 22 (q + 1)) h0 h') zNo) := by
  refine zC.of zpn_X3 (Nat.le_of_ble_eq_true rfl) (L := [(0, zp r), (1, zi p), (2, zi t)]) rfl (fun K hO => ?_)
  refine zr_aload_n hO (hl := rfl) (j := 0) (hi := rfl) dX3_opensRegion_0 ?_
  refine zs_arr hO hf 14 dX3_opensRegion_1 q2984 (Nat.le_of_ble_eq_true rfl) rfl ?_
  refine zr_aload_n hO (hl := rfl) (j := 0) (hi := rfl) dX3_opensRegion_4 ?_
  refine zs_get hO hf 22 (x := q) dX3_opensRegion_5 q2992 (Nat.le_of_ble_eq_true rfl) (congrArg (fun z => some (zi z)) hq) (fun ⟨r1a, r1b⟩ => ?_)
  refine zr_iload_n hO (hl := rfl) (j := 1) (hi := rfl) dX3_opensRegion_8 ?_
  refine zr_cSi hO zw_X3_148 (c_X3_lineOf p (by omega) (by omega)) dX3_opensRegion_9 rfl (rest := [zi q, zp (ad 14)]) rfl ⟨Nat.le_of_ble_eq_true rfl, Nat.le_of_ble_eq_true rfl⟩ (Nat.le_of_ble_eq_true rfl) (Nat.le_refl _) (Nat.le_refl _) (fun x h hx => ?_)
  obtain ⟨hx, rfl⟩ := hx
  have hx : x = p / 24 + 1 := hx
  subst hx
  refine zs_ist hO hI hf 14 (f := F) (n := 960) (j := q.toNat) dX3_opensRegion_12 rfl rfl rfl hF (by omega) (by omega) rfl ⟨by omega, by omega⟩ (fun h hf => ?_)
  refine zr_aload_n hO (hl := rfl) (j := 0) (hi := rfl) dX3_opensRegion_13 ?_
  refine zs_arr hO hf 15 dX3_opensRegion_14 q2985 (Nat.le_of_ble_eq_true rfl) rfl ?_
  refine zr_aload_n hO (hl := rfl) (j := 0) (hi := rfl) dX3_opensRegion_17 ?_
  refine zs_get hO hf 22 (x := q) dX3_opensRegion_18 q2992 (Nat.le_of_ble_eq_true rfl) (congrArg (fun z => some (zi z)) hq) (fun ⟨r2a, r2b⟩ => ?_)
  refine zr_aload_n hO (hl := rfl) (j := 0) (hi := rfl) dX3_opensRegion_21 ?_
  refine zs_arr hO hf 11 dX3_opensRegion_22 q2981 (Nat.le_of_ble_eq_true rfl) rfl ?_
  refine zr_iload_n hO (hl := rfl) (j := 1) (hi := rfl) dX3_opensRegion_25 ?_
  refine zs_ild hO hf 11 (f := mt) (n := 1920) (j := p.toNat) dX3_opensRegion_26 rfl rfl rfl hmt (by omega) (by omega) rfl (fun ⟨r3a, r3b⟩ => ?_)
  refine zr_cSi hO zw_X3_148 (c_X3_lineOf (mt p.toNat) (by omega) (by omega)) dX3_opensRegion_27 rfl (rest := [zi q, zp (ad 15)]) rfl ⟨Nat.le_of_ble_eq_true rfl, Nat.le_of_ble_eq_true rfl⟩ (Nat.le_of_ble_eq_true rfl) (Nat.le_refl _) (Nat.le_refl _) (fun x h hx => ?_)
  obtain ⟨hx, rfl⟩ := hx
  have hx : x = (mt p.toNat) / 24 + 1 := hx
  subst hx
  refine zs_ist hO hI hf 15 (f := M) (n := 960) (j := q.toNat) dX3_opensRegion_30 rfl rfl rfl hM (by omega) (by omega) rfl ⟨by omega, by omega⟩ (fun h hf => ?_)
  refine zr_aload_n hO (hl := rfl) (j := 0) (hi := rfl) dX3_opensRegion_31 ?_
  refine zs_arr hO hf 16 dX3_opensRegion_32 q2986 (Nat.le_of_ble_eq_true rfl) rfl ?_
  refine zr_aload_n hO (hl := rfl) (j := 0) (hi := rfl) dX3_opensRegion_35 ?_
  refine zs_get hO hf 22 (x := q) dX3_opensRegion_36 q2992 (Nat.le_of_ble_eq_true rfl) (congrArg (fun z => some (zi z)) hq) (fun ⟨r4a, r4b⟩ => ?_)
  refine zr_iload_n hO (hl := rfl) (j := 1) (hi := rfl) dX3_opensRegion_39 ?_
  refine zr_bipush hO (by decide) dX3_opensRegion_40 ?_
  refine zr_irem hO (by omega) (by omega) (by omega) (by omega) dX3_opensRegion_42 ?_
  refine zs_ist hO hI hf 16 (f := Of) (n := 960) (j := q.toNat) dX3_opensRegion_43 rfl rfl rfl hOf (by omega) (by omega) rfl ⟨by omega, by omega⟩ (fun h hf => ?_)
  refine zr_aload_n hO (hl := rfl) (j := 0) (hi := rfl) dX3_opensRegion_44 ?_
  refine zs_arr hO hf 17 dX3_opensRegion_45 q2987 (Nat.le_of_ble_eq_true rfl) rfl ?_
  refine zr_aload_n hO (hl := rfl) (j := 0) (hi := rfl) dX3_opensRegion_48 ?_
  refine zs_get hO hf 22 (x := q) dX3_opensRegion_49 q2992 (Nat.le_of_ble_eq_true rfl) (congrArg (fun z => some (zi z)) hq) (fun ⟨r5a, r5b⟩ => ?_)
  refine zr_aload_n hO (hl := rfl) (j := 0) (hi := rfl) dX3_opensRegion_52 ?_
  refine zs_arr hO hf 11 dX3_opensRegion_53 q2981 (Nat.le_of_ble_eq_true rfl) rfl ?_
  refine zr_iload_n hO (hl := rfl) (j := 1) (hi := rfl) dX3_opensRegion_56 ?_
  refine zs_ild hO hf 11 (f := mt) (n := 1920) (j := p.toNat) dX3_opensRegion_57 rfl rfl rfl hmt (by omega) (by omega) rfl (fun ⟨r6a, r6b⟩ => ?_)
  refine zr_bipush hO (by decide) dX3_opensRegion_58 ?_
  refine zr_irem hO (by omega) (by omega) (by omega) (by omega) dX3_opensRegion_60 ?_
  refine zs_ist hO hI hf 17 (f := S) (n := 960) (j := q.toNat) dX3_opensRegion_61 rfl rfl rfl hS (by omega) (by omega) rfl ⟨by omega, by omega⟩ (fun h hf => ?_)
  refine zr_aload_n hO (hl := rfl) (j := 0) (hi := rfl) dX3_opensRegion_62 ?_
  refine zs_arr hO hf 18 dX3_opensRegion_63 q2988 (Nat.le_of_ble_eq_true rfl) rfl ?_
  refine zr_aload_n hO (hl := rfl) (j := 0) (hi := rfl) dX3_opensRegion_66 ?_
  refine zs_get hO hf 22 (x := q) dX3_opensRegion_67 q2992 (Nat.le_of_ble_eq_true rfl) (congrArg (fun z => some (zi z)) hq) (fun ⟨r7a, r7b⟩ => ?_)
  refine zr_iload_n hO (hl := rfl) (j := 2) (hi := rfl) dX3_opensRegion_70 ?_
  refine zs_ist hO hI hf 18 (f := V) (n := 960) (j := q.toNat) dX3_opensRegion_71 rfl rfl rfl hV (by omega) (by omega) rfl ⟨by omega, by omega⟩ (fun h hf => ?_)
  refine zr_aload_n hO (hl := rfl) (j := 0) (hi := rfl) dX3_opensRegion_72 ?_
  refine zs_arr hO hf 19 dX3_opensRegion_73 q2989 (Nat.le_of_ble_eq_true rfl) rfl ?_
  refine zr_aload_n hO (hl := rfl) (j := 0) (hi := rfl) dX3_opensRegion_76 ?_
  refine zs_get hO hf 22 (x := q) dX3_opensRegion_77 q2992 (Nat.le_of_ble_eq_true rfl) (congrArg (fun z => some (zi z)) hq) (fun ⟨r8a, r8b⟩ => ?_)
  refine zr_iload_n hO (hl := rfl) (j := 2) (hi := rfl) dX3_opensRegion_80 ?_
  refine zr_if_ne hO ⟨by omega, by omega⟩ (tgt := 88) dX3_opensRegion_81 rfl (fun c81 => ?_) (fun c81 => ?_)
  · skip
    refine zr_aload_n hO (hl := rfl) (j := 0) (hi := rfl) dX3_opensRegion_88 ?_
    refine zs_arr hO hf 12 dX3_opensRegion_89 q2982 (Nat.le_of_ble_eq_true rfl) rfl ?_
    refine zr_iload_n hO (hl := rfl) (j := 2) (hi := rfl) dX3_opensRegion_92 ?_
    refine zr_iconst hO dX3_opensRegion_93 ?_
    refine zr_isub hO dX3_opensRegion_94 ?_
    refine zs_ild hO hf 12 (f := Kt) (n := 1920) (j := (t - 1).toNat) dX3_opensRegion_95 rfl rfl rfl hKt (by omega) (by omega) rfl (fun ⟨r9a, r9b⟩ => ?_)
    refine zs_ist hO hI hf 19 (f := A) (n := 960) (j := q.toNat) dX3_opensRegion_96 rfl rfl rfl hA (by omega) (by omega) rfl ⟨by omega, by omega⟩ (fun h hf => ?_)
    refine zr_aload_n hO (hl := rfl) (j := 0) (hi := rfl) dX3_opensRegion_97 ?_
    refine zs_arr hO hf 12 dX3_opensRegion_98 q2982 (Nat.le_of_ble_eq_true rfl) rfl ?_
    refine zr_iload_n hO (hl := rfl) (j := 2) (hi := rfl) dX3_opensRegion_101 ?_
    refine zr_aload_n hO (hl := rfl) (j := 0) (hi := rfl) dX3_opensRegion_102 ?_
    refine zs_get hO hf 22 (x := q) dX3_opensRegion_103 q2992 (Nat.le_of_ble_eq_true rfl) (congrArg (fun z => some (zi z)) hq) (fun ⟨r10a, r10b⟩ => ?_)
    refine zs_ist hO hI hf 12 (f := Kt) (n := 1920) (j := t.toNat) dX3_opensRegion_106 rfl rfl rfl hKt (by omega) (by omega) rfl ⟨by omega, by omega⟩ (fun h hf => ?_)
    refine zr_aload_n hO (hl := rfl) (j := 0) (hi := rfl) dX3_opensRegion_107 ?_
    refine zr_dup hO rfl dX3_opensRegion_108 ?_
    refine zs_get hO hf 22 (x := q) dX3_opensRegion_109 q2992 (Nat.le_of_ble_eq_true rfl) (congrArg (fun z => some (zi z)) hq) (fun ⟨r11a, r11b⟩ => ?_)
    refine zr_iconst hO dX3_opensRegion_112 ?_
    refine zr_iadd hO dX3_opensRegion_113 ?_
    refine zs_put hO hI hf 22 dX3_opensRegion_114 q2992 (Nat.le_of_ble_eq_true rfl) rfl rfl rfl ⟨by omega, by omega⟩ (fun h hf => ?_)
    exact zr_return hO dX3_opensRegion_117 (by rw [if_neg (show ¬ t = 0 by omega)]; exact hf)
  · skip
    refine zr_iconst hO dX3_opensRegion_84 ?_
    refine zr_goto hO (tgt := 96) dX3_opensRegion_85 rfl ?_
    refine zs_ist hO hI hf 19 (f := A) (n := 960) (j := q.toNat) dX3_opensRegion_96 rfl rfl rfl hA (by omega) (by omega) rfl ⟨by omega, by omega⟩ (fun h hf => ?_)
    refine zr_aload_n hO (hl := rfl) (j := 0) (hi := rfl) dX3_opensRegion_97 ?_
    refine zs_arr hO hf 12 dX3_opensRegion_98 q2982 (Nat.le_of_ble_eq_true rfl) rfl ?_
    refine zr_iload_n hO (hl := rfl) (j := 2) (hi := rfl) dX3_opensRegion_101 ?_
    refine zr_aload_n hO (hl := rfl) (j := 0) (hi := rfl) dX3_opensRegion_102 ?_
    refine zs_get hO hf 22 (x := q) dX3_opensRegion_103 q2992 (Nat.le_of_ble_eq_true rfl) (congrArg (fun z => some (zi z)) hq) (fun ⟨r12a, r12b⟩ => ?_)
    refine zs_ist hO hI hf 12 (f := Kt) (n := 1920) (j := t.toNat) dX3_opensRegion_106 rfl rfl rfl hKt (by omega) (by omega) rfl ⟨by omega, by omega⟩ (fun h hf => ?_)
    refine zr_aload_n hO (hl := rfl) (j := 0) (hi := rfl) dX3_opensRegion_107 ?_
    refine zr_dup hO rfl dX3_opensRegion_108 ?_
    refine zs_get hO hf 22 (x := q) dX3_opensRegion_109 q2992 (Nat.le_of_ble_eq_true rfl) (congrArg (fun z => some (zi z)) hq) (fun ⟨r13a, r13b⟩ => ?_)
    refine zr_iconst hO dX3_opensRegion_112 ?_
    refine zr_iadd hO dX3_opensRegion_113 ?_
    refine zs_put hO hI hf 22 dX3_opensRegion_114 q2992 (Nat.le_of_ble_eq_true rfl) rfl rfl rfl ⟨by omega, by omega⟩ (fun h hf => ?_)
    exact zr_return hO dX3_opensRegion_117 (by rw [if_pos (show t = 0 by omega)]; exact hf)
theorem zw_X3_151 : zYw RX3 RX3 151 yX3_laysMates cX3_laysMates 5 none 0 := ⟨q3132, q3134, qs54, q116, q3135, rfl, ⟨by decide +kernel, by decide +kernel, by decide +kernel⟩⟩
theorem zw_X3_154 : zYw RX3 RX3 154 yX3_isBracket cX3_isBracket 3 (some Jvm.ClassFile.FieldType.boolean) 2 := ⟨q3154, q3156, qs58, q116, q3157, rfl, ⟨by decide +kernel, by decide +kernel, by decide +kernel⟩⟩
theorem zw_X3_158 : zYw RX3 RX3 158 yX3_opensRegion cX3_opensRegion 3 none 2 := ⟨q3161, q3163, qs59, q116, q3164, rfl, ⟨by decide +kernel, by decide +kernel, by decide +kernel⟩⟩
theorem c_X3_laysRegions {G : zG} {r : Nat} {ad : Nat → Nat} {h0 : zHp} (hI : zRI r ad) {σ : zS} {h : zHp} (hf : zRf r ad σ h0 h) {g : Nat → Int} (hg : σ.2 1 = g) (hw : zwf g) : zC G yX3_laysRegions cX3_laysRegions 5 none 4 88 0 0 [zp r] h (zPv (fun h' => ∃ τ : zS, zSm σ τ ∧ zMt g τ ∧ zRt g τ ∧ zRf r ad τ h0 h') zNo) := by
  refine zC.of zpn_X3 (Nat.le_of_ble_eq_true rfl) (L := [(0, zp r)]) rfl (fun K hO => ?_)
  obtain ⟨w1, w2, w3⟩ := id hw
  refine zr_aload_n hO (hl := rfl) (j := 0) (hi := rfl) dX3_laysRegions_0 ?_
  refine zr_cVv hO zc_X3 zw_X3_151 (c_X3_laysMates hI hf hg  (hw)) dX3_laysRegions_1 (zrd_of hf.1) rfl (rest := []) rfl ⟨Nat.le_of_ble_eq_true rfl, Nat.le_of_ble_eq_true rfl⟩ (Nat.le_of_ble_eq_true rfl) (Nat.le_refl _) (Nat.le_refl _) (fun h hx => ?_)
  obtain ⟨τ1, hs1, hm1, hf⟩ := hx
  refine zr_aload_n hO (hl := rfl) (j := 0) (hi := rfl) dX3_laysRegions_4 ?_
  refine zr_iconst hO dX3_laysRegions_5 ?_
  refine zs_put hO hI hf 22 dX3_laysRegions_6 q2992 (Nat.le_of_ble_eq_true rfl) rfl rfl rfl ⟨by omega, by omega⟩ (fun h hf => ?_)
  refine zr_iconst hO dX3_laysRegions_9 ?_
  refine zr_istore_n hO (L' := [(1, zi 0), (0, zp r)]) (hi := rfl) dX3_laysRegions_10 (Nat.le_of_ble_eq_true rfl) rfl ?_
  refine zr_iconst hO dX3_laysRegions_11 ?_
  refine zr_istore_n hO (L' := [(2, zi 1), (1, zi 0), (0, zp r)]) (hi := rfl) dX3_laysRegions_12 (Nat.le_of_ble_eq_true rfl) rfl ?_
  have hl13 : ∀ (n9 : Nat) (τ : zS) (n t : Int), (g 0 + 1 - n).toNat = n9 → ∀ (i1 : 1 ≤ n) (i2 : n ≤ g 0 + 1) (hs : zSm σ τ) (hm : zMt g τ) (hr : zRL g (24 * (n - 1)).toNat (τ.1 22) t (τ.2 12) (τ.2 14) (τ.2 15) (τ.2 16) (τ.2 17) (τ.2 18) (τ.2 19)) (h : zHp) (hf : zRf r ad τ h0 h), zV G K 0 0 h 13 [(0, zp r), (1, zi t), (2, zi n)] [] := by
    intro n9
    induction n9 using Nat.strongRecOn with
    | _ n9 ih13 =>
    intro τ n t hn13 i1 i2 hs hm hr h hf
    have hin := zRL_in (by omega) hr
    refine zr_iload_n hO (hl := rfl) (j := 2) (hi := rfl) dX3_laysRegions_13 ?_
    refine zr_aload_n hO (hl := rfl) (j := 0) (hi := rfl) dX3_laysRegions_14 ?_
    refine zs_arr hO hf 1 dX3_laysRegions_15 q2971 (Nat.le_of_ble_eq_true rfl) rfl ?_
    refine zr_iconst hO dX3_laysRegions_18 ?_
    refine zs_ild hO hf 1 (f := g) (n := 2195) (j := 0) dX3_laysRegions_19 rfl rfl rfl ((hs.2 1 rfl).trans hg) (by omega) (by omega) rfl (fun ⟨r1a, r1b⟩ => ?_)
    refine zr_icmp_gt hO ⟨by omega, by omega⟩ ⟨by omega, by omega⟩ (tgt := 118) dX3_laysRegions_20 rfl (fun c20 => ?_) (fun c20 => ?_)
    · skip
      exact zr_return hO dX3_laysRegions_118 ⟨_, hs, hm, zRt_of hw (by omega) (by omega) hr, hf⟩
    · skip
      have hwn := w3 n (by omega) (by omega)
      refine zr_iconst hO dX3_laysRegions_23 ?_
      refine zr_istore_n hO (L' := [(3, zi 0), (0, zp r), (1, zi t), (2, zi n)]) (hi := rfl) dX3_laysRegions_24 (Nat.le_of_ble_eq_true rfl) rfl ?_
      have hl25 : ∀ (n9 : Nat) (τ : zS) (i t : Int), (gln g n - i).toNat = n9 → ∀ (j1 : 0 ≤ i) (j2 : i ≤ gln g n) (hs : zSm σ τ) (hm : zMt g τ) (hr : zRL g (24 * (n - 1) + i).toNat (τ.1 22) t (τ.2 12) (τ.2 14) (τ.2 15) (τ.2 16) (τ.2 17) (τ.2 18) (τ.2 19)) (h : zHp) (hf : zRf r ad τ h0 h), zV G K 0 0 h 25 [(0, zp r), (1, zi t), (2, zi n), (3, zi i)] [] := by
        intro n9
        induction n9 using Nat.strongRecOn with
        | _ n9 ih25 =>
        intro τ i t hn25 j1 j2 hs hm hr h hf
        have hin := zRL_in (by omega) hr
        refine zr_iload_n hO (hl := rfl) (j := 3) (hi := rfl) dX3_laysRegions_25 ?_
        refine zr_aload_n hO (hl := rfl) (j := 0) (hi := rfl) dX3_laysRegions_26 ?_
        refine zr_iload_n hO (hl := rfl) (j := 2) (hi := rfl) dX3_laysRegions_27 ?_
        refine zr_cVi hO zc_X3 zw_X3_139 (c_X3_length hI hf ((hs.2 1 rfl).trans hg) n (by omega) (by omega)) dX3_laysRegions_28 (zrd_of hf.1) rfl (rest := [zi i]) rfl ⟨Nat.le_of_ble_eq_true rfl, Nat.le_of_ble_eq_true rfl⟩ (Nat.le_of_ble_eq_true rfl) (Nat.le_refl _) (Nat.le_refl _) (fun x h hx => ?_)
        obtain ⟨hx, ⟨r2a, r2b⟩, hf⟩ := hx
        have hx : x = gln g n := hx
        subst hx
        refine zr_icmp_ge hO ⟨by omega, by omega⟩ ⟨by omega, by omega⟩ (tgt := 112) dX3_laysRegions_31 rfl (fun c31 => ?_) (fun c31 => ?_)
        · skip
          refine zr_iinc hO (L' := [(2, zi (n + 1)), (0, zp r), (1, zi t), (3, zi i)]) (j := 2) dX3_laysRegions_112 rfl (Nat.le_of_ble_eq_true rfl) rfl ?_
          refine zr_goto hO (tgt := 13) dX3_laysRegions_115 rfl ?_
          refine zV.loc [1, 2, 0] rfl ?_
          exact ih13 _ (by omega) τ (n + 1) t rfl (by omega) (by omega) (hs) (hm) (zRL_to hr (by omega) (by omega) (fun j a b => gpc_off i1 (by omega) (by omega) (by omega))) h hf
        · skip
          have hpc : gpc g (24 * (n - 1) + i).toNat = gch g n i := gpc_in (by omega) (by omega) (by omega) (by omega) (by omega)
          refine zr_iload_n hO (hl := rfl) (j := 2) (hi := rfl) dX3_laysRegions_34 ?_
          refine zr_iload_n hO (hl := rfl) (j := 3) (hi := rfl) dX3_laysRegions_35 ?_
          refine zr_cSi hO zw_X3_142 (c_X3_place n i) dX3_laysRegions_36 rfl (rest := []) rfl ⟨Nat.le_of_ble_eq_true rfl, Nat.le_of_ble_eq_true rfl⟩ (Nat.le_of_ble_eq_true rfl) (Nat.le_refl _) (Nat.le_refl _) (fun x h hx => ?_)
          obtain ⟨hx, rfl⟩ := hx
          have hx : x = 24 * (n - 1) + i := hx
          subst hx
          refine zr_istore hO (L' := [(4, zi (24 * (n - 1) + i)), (0, zp r), (1, zi t), (2, zi n), (3, zi i)]) dX3_laysRegions_39 (Nat.le_of_ble_eq_true rfl) rfl ?_
          refine zr_aload_n hO (hl := rfl) (j := 1) (hi := rfl) dX3_laysRegions_41 ?_
          refine zr_iload_n hO (hl := rfl) (j := 3) (hi := rfl) dX3_laysRegions_42 ?_
          refine zr_iload_n hO (hl := rfl) (j := 4) (hi := rfl) dX3_laysRegions_43 ?_
          refine zr_cVi hO zc_X3 zw_X3_154 (c_X3_isBracket hI hf ((hs.2 1 rfl).trans hg) n i (by omega) (by omega) (by omega) (by omega)) dX3_laysRegions_44 (zrd_of hf.1) rfl (rest := []) rfl ⟨Nat.le_of_ble_eq_true rfl, Nat.le_of_ble_eq_true rfl⟩ (Nat.le_of_ble_eq_true rfl) (Nat.le_refl _) (Nat.le_refl _) (fun x h hx => ?_)
          obtain ⟨hx, hf⟩ := hx
          have hx : x = zB (gch g n i = 123 ∨ gch g n i = 125) := hx
          subst hx
          refine zr_if_eq hO (zR_B _) (tgt := 106) dX3_laysRegions_47 rfl (fun c47 => ?_) (fun c47 => ?_)
          · skip
            have c47 := zB_eq c47
            refine zr_iinc hO (L' := [(3, zi (i + 1)), (4, zi (24 * (n - 1) + i)), (0, zp r), (1, zi t), (2, zi n)]) (j := 4) dX3_laysRegions_106 rfl (Nat.le_of_ble_eq_true rfl) rfl ?_
            refine zr_goto hO (tgt := 25) dX3_laysRegions_109 rfl ?_
            refine zV.loc [2, 3, 4, 0] rfl ?_
            exact ih25 _ (by omega) τ (i + 1) t rfl (by omega) (by omega) (hs) (hm) (by rw [show (24 * (n - 1) + (i + 1)).toNat = (24 * (n - 1) + i).toNat + 1 by omega]; first
          | exact zRL_open (by omega) hr hro (by omega) hmv
          | exact zRL_close (by omega) hr ((gro_of (n := n) (by omega) (by omega) hb c58 c72).2 (by omega)) (by omega)
          | exact zRL_skip1 (by omega) hr (gr_no (n := n) (by omega) (Or.inl (by rw [hpc]; omega))).1 (gr_no (n := n) (by omega) (Or.inl (by rw [hpc]; omega))).2
          | exact zRL_skip1 (by omega) hr (gr_no (n := n) (by omega) (Or.inr (Or.inl c58))).1 (gr_no (n := n) (by omega) (Or.inr (Or.inl c58))).2
          | exact zRL_skip1 (by omega) hr (gr_no (n := n) (by omega) (Or.inr (Or.inr c72))).1 (gr_no (n := n) (by omega) (Or.inr (Or.inr c72))).2) h hf
          · skip
            have c47 := zB_ne c47
            have hb : gpc g (24 * (n - 1) + i).toNat = 123 ∨ gpc g (24 * (n - 1) + i).toNat = 125 := by rw [hpc]; exact c47
            have hmv := hm.1 _ hb
            have hgi := gmt_in (by omega) hb
            refine zr_aload_n hO (hl := rfl) (j := 1) (hi := rfl) dX3_laysRegions_50 ?_
            refine zs_arr hO hf 11 dX3_laysRegions_51 q2981 (Nat.le_of_ble_eq_true rfl) rfl ?_
            refine zr_iload hO (hl := rfl) (j := 0) dX3_laysRegions_54 ?_
            refine zs_ild hO hf 11 (f := τ.2 11) (n := 1920) (j := (24 * (n - 1) + i).toNat) dX3_laysRegions_56 rfl rfl rfl rfl (by omega) (by omega) rfl (fun ⟨r4a, r4b⟩ => ?_)
            rw [show ((τ.2 11) ((24 * (n - 1) + i).toNat)) = gmt g (24 * (n - 1) + i).toNat from hmv]
            refine zr_iconst hO dX3_laysRegions_57 ?_
            refine zr_icmp_eq hO ⟨by omega, by omega⟩ ⟨by omega, by omega⟩ (tgt := 106) dX3_laysRegions_58 rfl (fun c58 => ?_) (fun c58 => ?_)
            · skip
              refine zr_iinc hO (L' := [(3, zi (i + 1)), (4, zi (24 * (n - 1) + i)), (0, zp r), (1, zi t), (2, zi n)]) (j := 4) dX3_laysRegions_106 rfl (Nat.le_of_ble_eq_true rfl) rfl ?_
              refine zr_goto hO (tgt := 25) dX3_laysRegions_109 rfl ?_
              refine zV.loc [2, 3, 4, 0] rfl ?_
              exact ih25 _ (by omega) τ (i + 1) t rfl (by omega) (by omega) (hs) (hm) (by rw [show (24 * (n - 1) + (i + 1)).toNat = (24 * (n - 1) + i).toNat + 1 by omega]; first
          | exact zRL_open (by omega) hr hro (by omega) hmv
          | exact zRL_close (by omega) hr ((gro_of (n := n) (by omega) (by omega) hb c58 c72).2 (by omega)) (by omega)
          | exact zRL_skip1 (by omega) hr (gr_no (n := n) (by omega) (Or.inl (by rw [hpc]; omega))).1 (gr_no (n := n) (by omega) (Or.inl (by rw [hpc]; omega))).2
          | exact zRL_skip1 (by omega) hr (gr_no (n := n) (by omega) (Or.inr (Or.inl c58))).1 (gr_no (n := n) (by omega) (Or.inr (Or.inl c58))).2
          | exact zRL_skip1 (by omega) hr (gr_no (n := n) (by omega) (Or.inr (Or.inr c72))).1 (gr_no (n := n) (by omega) (Or.inr (Or.inr c72))).2) h hf
            · skip
              refine zr_aload_n hO (hl := rfl) (j := 1) (hi := rfl) dX3_laysRegions_61 ?_
              refine zs_arr hO hf 11 dX3_laysRegions_62 q2981 (Nat.le_of_ble_eq_true rfl) rfl ?_
              refine zr_iload hO (hl := rfl) (j := 0) dX3_laysRegions_65 ?_
              refine zs_ild hO hf 11 (f := τ.2 11) (n := 1920) (j := (24 * (n - 1) + i).toNat) dX3_laysRegions_67 rfl rfl rfl rfl (by omega) (by omega) rfl (fun ⟨r5a, r5b⟩ => ?_)
              rw [show ((τ.2 11) ((24 * (n - 1) + i).toNat)) = gmt g (24 * (n - 1) + i).toNat from hmv]
              refine zr_cSi hO zw_X3_148 (c_X3_lineOf (gmt g (24 * (n - 1) + i).toNat) (by omega) (by omega)) dX3_laysRegions_68 rfl (rest := []) rfl ⟨Nat.le_of_ble_eq_true rfl, Nat.le_of_ble_eq_true rfl⟩ (Nat.le_of_ble_eq_true rfl) (Nat.le_refl _) (Nat.le_refl _) (fun x h hx => ?_)
              obtain ⟨hx, rfl⟩ := hx
              have hx : x = (gmt g (24 * (n - 1) + i).toNat) / 24 + 1 := hx
              subst hx
              refine zr_iload_n hO (hl := rfl) (j := 3) (hi := rfl) dX3_laysRegions_71 ?_
              refine zr_icmp_ne hO ⟨by omega, by omega⟩ ⟨by omega, by omega⟩ (tgt := 78) dX3_laysRegions_72 rfl (fun c72 => ?_) (fun c72 => ?_)
              · skip
                refine zr_aload_n hO (hl := rfl) (j := 1) (hi := rfl) dX3_laysRegions_78 ?_
                refine zs_arr hO hf 11 dX3_laysRegions_79 q2981 (Nat.le_of_ble_eq_true rfl) rfl ?_
                refine zr_iload hO (hl := rfl) (j := 0) dX3_laysRegions_82 ?_
                refine zs_ild hO hf 11 (f := τ.2 11) (n := 1920) (j := (24 * (n - 1) + i).toNat) dX3_laysRegions_84 rfl rfl rfl rfl (by omega) (by omega) rfl (fun ⟨r6a, r6b⟩ => ?_)
                rw [show ((τ.2 11) ((24 * (n - 1) + i).toNat)) = gmt g (24 * (n - 1) + i).toNat from hmv]
                refine zr_iload hO (hl := rfl) (j := 0) dX3_laysRegions_85 ?_
                refine zr_icmp_le hO ⟨by omega, by omega⟩ ⟨by omega, by omega⟩ (tgt := 103) dX3_laysRegions_87 rfl (fun c87 => ?_) (fun c87 => ?_)
                · skip
                  refine zr_iinc hO (L' := [(1, zi (t + (-1))), (4, zi (24 * (n - 1) + i)), (0, zp r), (2, zi n), (3, zi i)]) (j := 2) dX3_laysRegions_103 rfl (Nat.le_of_ble_eq_true rfl) rfl ?_
                  refine zr_iinc hO (L' := [(3, zi (i + 1)), (1, zi (t + (-1))), (4, zi (24 * (n - 1) + i)), (0, zp r), (2, zi n)]) (j := 4) dX3_laysRegions_106 rfl (Nat.le_of_ble_eq_true rfl) rfl ?_
                  refine zr_goto hO (tgt := 25) dX3_laysRegions_109 rfl ?_
                  refine zV.loc [3, 1, 4, 0] rfl ?_
                  exact ih25 _ (by omega) τ (i + 1) (t + (-1)) rfl (by omega) (by omega) (hs) (hm) (by rw [show (24 * (n - 1) + (i + 1)).toNat = (24 * (n - 1) + i).toNat + 1 by omega]; first
          | exact zRL_open (by omega) hr hro (by omega) hmv
          | exact zRL_close (by omega) hr ((gro_of (n := n) (by omega) (by omega) hb c58 c72).2 (by omega)) (by omega)
          | exact zRL_skip1 (by omega) hr (gr_no (n := n) (by omega) (Or.inl (by rw [hpc]; omega))).1 (gr_no (n := n) (by omega) (Or.inl (by rw [hpc]; omega))).2
          | exact zRL_skip1 (by omega) hr (gr_no (n := n) (by omega) (Or.inr (Or.inl c58))).1 (gr_no (n := n) (by omega) (Or.inr (Or.inl c58))).2
          | exact zRL_skip1 (by omega) hr (gr_no (n := n) (by omega) (Or.inr (Or.inr c72))).1 (gr_no (n := n) (by omega) (Or.inr (Or.inr c72))).2) h hf
                · skip
                  have hro := (gro_of (n := n) (by omega) (by omega) hb c58 c72).1 (by omega)
                  have hg9 := (gp_at (by omega) hro).2
                  have hg8 := gN_le g
                  have hq9 := hr.1
                  refine zr_aload_n hO (hl := rfl) (j := 1) (hi := rfl) dX3_laysRegions_90 ?_
                  refine zr_iload hO (hl := rfl) (j := 0) dX3_laysRegions_91 ?_
                  refine zr_iload_n hO (hl := rfl) (j := 2) (hi := rfl) dX3_laysRegions_93 ?_
                  refine zr_cVv hO zc_X3 zw_X3_158 (c_X3_opensRegion hI hf (rfl : τ.2 11 = (τ.2 11)) (rfl : τ.2 12 = (τ.2 12)) (rfl : τ.2 14 = (τ.2 14)) (rfl : τ.2 15 = (τ.2 15)) (rfl : τ.2 16 = (τ.2 16)) (rfl : τ.2 17 = (τ.2 17)) (rfl : τ.2 18 = (τ.2 18)) (rfl : τ.2 19 = (τ.2 19)) (rfl : τ.1 22 = (τ.1 22)) (24 * (n - 1) + i) t (by omega) (by omega) (by omega) (by omega) (by omega) (by omega) (by omega) (by omega)) dX3_laysRegions_94 (zrd_of hf.1) rfl (rest := []) rfl ⟨Nat.le_of_ble_eq_true rfl, Nat.le_of_ble_eq_true rfl⟩ (Nat.le_of_ble_eq_true rfl) (Nat.le_refl _) (Nat.le_refl _) (fun h hx => ?_)
                  have hf : zRf r ad (zuS (zuA (zuA (zuA (zuA (zuA (zuA (zuA τ 14 (zset ((τ.2 14)) ((τ.1 22)).toNat ((24 * (n - 1) + i) / 24 + 1))) 15 (zset ((τ.2 15)) ((τ.1 22)).toNat (((τ.2 11)) (24 * (n - 1) + i).toNat / 24 + 1))) 16 (zset ((τ.2 16)) ((τ.1 22)).toNat ((24 * (n - 1) + i) % 24))) 17 (zset ((τ.2 17)) ((τ.1 22)).toNat (((τ.2 11)) (24 * (n - 1) + i).toNat % 24))) 18 (zset ((τ.2 18)) ((τ.1 22)).toNat t)) 19 (zset ((τ.2 19)) ((τ.1 22)).toNat (if t = 0 then -1 else ((τ.2 12)) (t - 1).toNat))) 12 (zset ((τ.2 12)) t.toNat ((τ.1 22)))) 22 (((τ.1 22)) + 1)) h0 h := hx
                  clear hx
                  refine zr_iinc hO (L' := [(1, zi (t + 1)), (4, zi (24 * (n - 1) + i)), (0, zp r), (2, zi n), (3, zi i)]) (j := 2) dX3_laysRegions_97 rfl (Nat.le_of_ble_eq_true rfl) rfl ?_
                  refine zr_goto hO (tgt := 106) dX3_laysRegions_100 rfl ?_
                  refine zr_iinc hO (L' := [(3, zi (i + 1)), (1, zi (t + 1)), (4, zi (24 * (n - 1) + i)), (0, zp r), (2, zi n)]) (j := 4) dX3_laysRegions_106 rfl (Nat.le_of_ble_eq_true rfl) rfl ?_
                  refine zr_goto hO (tgt := 25) dX3_laysRegions_109 rfl ?_
                  refine zV.loc [3, 1, 4, 0] rfl ?_
                  exact ih25 _ (by omega) (zuS (zuA (zuA (zuA (zuA (zuA (zuA (zuA τ 14 (zset ((τ.2 14)) ((τ.1 22)).toNat ((24 * (n - 1) + i) / 24 + 1))) 15 (zset ((τ.2 15)) ((τ.1 22)).toNat (((τ.2 11)) (24 * (n - 1) + i).toNat / 24 + 1))) 16 (zset ((τ.2 16)) ((τ.1 22)).toNat ((24 * (n - 1) + i) % 24))) 17 (zset ((τ.2 17)) ((τ.1 22)).toNat (((τ.2 11)) (24 * (n - 1) + i).toNat % 24))) 18 (zset ((τ.2 18)) ((τ.1 22)).toNat t)) 19 (zset ((τ.2 19)) ((τ.1 22)).toNat (if t = 0 then -1 else ((τ.2 12)) (t - 1).toNat))) 12 (zset ((τ.2 12)) t.toNat ((τ.1 22)))) 22 (((τ.1 22)) + 1)) (i + 1) (t + 1) rfl (by omega) (by omega) (((((((((hs.uA (k := 14) rfl (zset ((τ.2 14)) ((τ.1 22)).toNat ((24 * (n - 1) + i) / 24 + 1))).uA (k := 15) rfl (zset ((τ.2 15)) ((τ.1 22)).toNat (((τ.2 11)) (24 * (n - 1) + i).toNat / 24 + 1))).uA (k := 16) rfl (zset ((τ.2 16)) ((τ.1 22)).toNat ((24 * (n - 1) + i) % 24))).uA (k := 17) rfl (zset ((τ.2 17)) ((τ.1 22)).toNat (((τ.2 11)) (24 * (n - 1) + i).toNat % 24))).uA (k := 18) rfl (zset ((τ.2 18)) ((τ.1 22)).toNat t)).uA (k := 19) rfl (zset ((τ.2 19)) ((τ.1 22)).toNat (if t = 0 then -1 else ((τ.2 12)) (t - 1).toNat))).uA (k := 12) rfl (zset ((τ.2 12)) t.toNat ((τ.1 22)))).uS (Or.inl rfl) (((τ.1 22)) + 1))) (hm) (by rw [show (24 * (n - 1) + (i + 1)).toNat = (24 * (n - 1) + i).toNat + 1 by omega]; first
          | exact zRL_open (by omega) hr hro (by omega) hmv
          | exact zRL_close (by omega) hr ((gro_of (n := n) (by omega) (by omega) hb c58 c72).2 (by omega)) (by omega)
          | exact zRL_skip1 (by omega) hr (gr_no (n := n) (by omega) (Or.inl (by rw [hpc]; omega))).1 (gr_no (n := n) (by omega) (Or.inl (by rw [hpc]; omega))).2
          | exact zRL_skip1 (by omega) hr (gr_no (n := n) (by omega) (Or.inr (Or.inl c58))).1 (gr_no (n := n) (by omega) (Or.inr (Or.inl c58))).2
          | exact zRL_skip1 (by omega) hr (gr_no (n := n) (by omega) (Or.inr (Or.inr c72))).1 (gr_no (n := n) (by omega) (Or.inr (Or.inr c72))).2) h hf
              · skip
                refine zr_goto hO (tgt := 106) dX3_laysRegions_75 rfl ?_
                refine zr_iinc hO (L' := [(3, zi (i + 1)), (4, zi (24 * (n - 1) + i)), (0, zp r), (1, zi t), (2, zi n)]) (j := 4) dX3_laysRegions_106 rfl (Nat.le_of_ble_eq_true rfl) rfl ?_
                refine zr_goto hO (tgt := 25) dX3_laysRegions_109 rfl ?_
                refine zV.loc [2, 3, 4, 0] rfl ?_
                exact ih25 _ (by omega) τ (i + 1) t rfl (by omega) (by omega) (hs) (hm) (by rw [show (24 * (n - 1) + (i + 1)).toNat = (24 * (n - 1) + i).toNat + 1 by omega]; first
          | exact zRL_open (by omega) hr hro (by omega) hmv
          | exact zRL_close (by omega) hr ((gro_of (n := n) (by omega) (by omega) hb c58 c72).2 (by omega)) (by omega)
          | exact zRL_skip1 (by omega) hr (gr_no (n := n) (by omega) (Or.inl (by rw [hpc]; omega))).1 (gr_no (n := n) (by omega) (Or.inl (by rw [hpc]; omega))).2
          | exact zRL_skip1 (by omega) hr (gr_no (n := n) (by omega) (Or.inr (Or.inl c58))).1 (gr_no (n := n) (by omega) (Or.inr (Or.inl c58))).2
          | exact zRL_skip1 (by omega) hr (gr_no (n := n) (by omega) (Or.inr (Or.inr c72))).1 (gr_no (n := n) (by omega) (Or.inr (Or.inr c72))).2) h hf
      refine zV.loc [1, 2, 3, 0] rfl ?_
      exact hl25 _ τ 0 t rfl (by omega) (by omega) (hs) (hm) (by rw [Int.add_zero]; exact hr) h hf
  refine zV.loc [2, 1, 0] rfl ?_
  exact hl13 _ (zuS τ1 22 0) 1 0 rfl (by omega) (by omega) ((((zSm.refl σ).trans hs1).uS (Or.inl rfl) 0)) (hm1) (zRL_0 g _ _ _ _ _ _ _) h hf
theorem zw_X3_161 : zYw RX3 RX3 161 yX3_laysRegions cX3_laysRegions 5 none 0 := ⟨q3128, q3130, qs53, q116, q3131, rfl, ⟨by decide +kernel, by decide +kernel, by decide +kernel⟩⟩
theorem c_X3_lays {G : zG} {r : Nat} {ad : Nat → Nat} {h0 : zHp} (hI : zRI r ad) {σ : zS} {h : zHp} (hf : zRf r ad σ h0 h) {g : Nat → Int} (hg : σ.2 1 = g) (th : Int) (as : Int) (hw : zwf g) (ht : zR th) (ha : zR as) : zC G yX3_lays cX3_lays 6 none 5 112 0 0 [zp r, zi th, zi as] h (zPv (fun h' => ∃ τ : zS, zSm σ τ ∧ zLd g (gc2 g th as) τ ∧ zRf r ad τ h0 h') zNo) := by
  refine zC.of zpn_X3 (Nat.le_of_ble_eq_true rfl) (L := [(0, zp r), (1, zi th), (2, zi as)]) rfl (fun K hO => ?_)
  obtain ⟨w1, w2, w3⟩ := id hw
  obtain ⟨hta, htb⟩ := ht
  obtain ⟨haa, hab⟩ := ha
  refine zr_aload_n hO (hl := rfl) (j := 0) (hi := rfl) dX3_lays_0 ?_
  refine zr_cVv hO zc_X3 zw_X3_161 (c_X3_laysRegions hI hf hg  (hw)) dX3_lays_1 (zrd_of hf.1) rfl (rest := []) rfl ⟨Nat.le_of_ble_eq_true rfl, Nat.le_of_ble_eq_true rfl⟩ (Nat.le_of_ble_eq_true rfl) (Nat.le_refl _) (Nat.le_refl _) (fun h hx => ?_)
  obtain ⟨τ1, hs1, hm1, hr1, hf⟩ := hx
  refine zr_iconst hO dX3_lays_4 ?_
  refine zr_istore_n hO (L' := [(3, zi 0), (0, zp r), (1, zi th), (2, zi as)]) (hi := rfl) dX3_lays_5 (Nat.le_of_ble_eq_true rfl) rfl ?_
  have hl6 : ∀ (n9 : Nat) (ρ : zS) (n : Int), (g 0 + 2 - n).toNat = n9 → ∀ (i1 : 0 ≤ n) (i2 : n ≤ g 0 + 2) (hA : ∀ k, k ≠ 20 → k ≠ 21 → ρ.2 k = τ1.2 k) (hB : ∀ k, ρ.1 k = τ1.1 k) (hz : ∀ m : Int, 0 ≤ m → m < n → ρ.2 20 m.toNat = 0 ∧ ρ.2 21 m.toNat = 0) (h : zHp) (hf : zRf r ad ρ h0 h), zV G K 0 0 h 6 [(0, zp r), (1, zi th), (2, zi as), (3, zi n)] [] := by
    intro n9
    induction n9 using Nat.strongRecOn with
    | _ n9 ih6 =>
    intro ρ n hn6 i1 i2 hA hB hz h hf
    refine zr_iload_n hO (hl := rfl) (j := 3) (hi := rfl) dX3_lays_6 ?_
    refine zr_aload_n hO (hl := rfl) (j := 0) (hi := rfl) dX3_lays_7 ?_
    refine zs_arr hO hf 1 dX3_lays_8 q2971 (Nat.le_of_ble_eq_true rfl) rfl ?_
    refine zr_iconst hO dX3_lays_11 ?_
    refine zs_ild hO hf 1 (f := g) (n := 2195) (j := 0) dX3_lays_12 rfl rfl rfl ((hA 1 (by decide) (by decide)).trans ((hs1.2 1 rfl).trans hg)) (by omega) (by omega) rfl (fun ⟨r1a, r1b⟩ => ?_)
    refine zr_iconst hO dX3_lays_13 ?_
    refine zr_iadd hO dX3_lays_14 ?_
    refine zr_icmp_gt hO ⟨by omega, by omega⟩ ⟨by omega, by omega⟩ (tgt := 38) dX3_lays_15 rfl (fun c15 => ?_) (fun c15 => ?_)
    · skip
      refine zr_iconst hO dX3_lays_38 ?_
      refine zr_istore_n hO (L' := [(3, zi 0), (0, zp r), (1, zi th), (2, zi as)]) (hi := rfl) dX3_lays_39 (Nat.le_of_ble_eq_true rfl) rfl ?_
      have hl40 : ∀ (n9 : Nat) (ρ : zS) (k : Int), ((gN g : Int) - k).toNat = n9 → ∀ (k1 : 0 ≤ k) (k2 : k ≤ gN g) (hA : ∀ k, k ≠ 20 → k ≠ 21 → ρ.2 k = τ1.2 k) (hB : ∀ k, ρ.1 k = τ1.1 k) (hk : zHk g (gc2 g th as) k.toNat (ρ.2 20) (ρ.2 21)) (h : zHp) (hf : zRf r ad ρ h0 h), zV G K 0 0 h 40 [(0, zp r), (1, zi th), (2, zi as), (3, zi k)] [] := by
        intro n9
        induction n9 using Nat.strongRecOn with
        | _ n9 ih40 =>
        intro ρ k hn40 k1 k2 hA hB hk h hf
        have hN := gN_le g
        refine zr_iload_n hO (hl := rfl) (j := 3) (hi := rfl) dX3_lays_40 ?_
        refine zr_aload_n hO (hl := rfl) (j := 0) (hi := rfl) dX3_lays_41 ?_
        refine zs_get hO hf 22 (x := gN g) dX3_lays_42 q2992 (Nat.le_of_ble_eq_true rfl) (congrArg (fun z => some (zi z)) ((hB 22).trans hr1.1)) (fun ⟨r2a, r2b⟩ => ?_)
        refine zr_icmp_ge hO ⟨by omega, by omega⟩ ⟨by omega, by omega⟩ (tgt := 140) dX3_lays_45 rfl (fun c45 => ?_) (fun c45 => ?_)
        · skip
          exact zr_return hO dX3_lays_140 ⟨_, (zSm.trans hs1 (zSm2 hA hB)), ⟨⟨fun q hc => by rw [hA 11 (by decide) (by decide)]; exact hm1.1 q hc, (hB 23).trans hm1.2⟩, ⟨((hB 22).trans hr1.1), fun j hj => by rw [hA 14 (by decide) (by decide), hA 15 (by decide) (by decide), hA 16 (by decide) (by decide), hA 17 (by decide) (by decide), hA 18 (by decide) (by decide), hA 19 (by decide) (by decide)]; exact hr1.2 j hj⟩, (by unfold zHd; rw [show gN g = k.toNat by omega]; exact hk)⟩, hf⟩
        · skip
          have hrk := hr1.2 k.toNat (by omega)
          have hgk := g_rows hw (r := k.toNat) (by omega)
          have hj82 : ∀ (fd : Int) (hfd : fd = zB (gc2 g th as (gF g k.toNat) = 1)) (h : zHp) (hf : zRf r ad ρ h0 h), zV G K 0 0 h 82 [(0, zp r), (1, zi th), (2, zi as), (3, zi k)] [zi fd] := by
            intro fd hfd h hf
            have hfd2 : fd = 0 ∨ fd = 1 := by rw [hfd]; exact zB_01 _
            refine zr_istore hO (L' := [(4, zi fd), (0, zp r), (1, zi th), (2, zi as), (3, zi k)]) dX3_lays_82 (Nat.le_of_ble_eq_true rfl) rfl ?_
            refine zr_aload_n hO (hl := rfl) (j := 1) (hi := rfl) dX3_lays_84 ?_
            refine zs_arr hO hf 14 dX3_lays_85 q2984 (Nat.le_of_ble_eq_true rfl) rfl ?_
            refine zr_iload_n hO (hl := rfl) (j := 4) (hi := rfl) dX3_lays_88 ?_
            refine zs_ild hO hf 14 (f := τ1.2 14) (n := 960) (j := k.toNat) dX3_lays_89 rfl rfl rfl (hA 14 (by decide) (by decide)) (by omega) (by omega) rfl (fun ⟨r3a, r3b⟩ => ?_)
            rw [show ((τ1.2 14) k.toNat) = gF g k.toNat from hrk.1]
            refine zr_iconst hO dX3_lays_90 ?_
            refine zr_iadd hO dX3_lays_91 ?_
            refine zr_istore hO (L' := [(5, zi ((gF g k.toNat) + 1)), (4, zi fd), (0, zp r), (1, zi th), (2, zi as), (3, zi k)]) dX3_lays_92 (Nat.le_of_ble_eq_true rfl) rfl ?_
            have hl94 : ∀ (n9 : Nat) (ρ : zS) (x : Int), (gM g k.toNat - x).toNat = n9 → ∀ (x1 : gF g k.toNat < x) (x2 : x ≤ gM g k.toNat) (hA : ∀ k, k ≠ 20 → k ≠ 21 → ρ.2 k = τ1.2 k) (hB : ∀ k, ρ.1 k = τ1.1 k) (hx : zHx g (gc2 g th as) k.toNat x (ρ.2 20) (ρ.2 21)) (h : zHp) (hf : zRf r ad ρ h0 h), zV G K 0 0 h 94 [(0, zp r), (1, zi th), (2, zi as), (3, zi k), (4, zi fd), (5, zi x)] [] := by
              intro n9
              induction n9 using Nat.strongRecOn with
              | _ n9 ih94 =>
              intro ρ x hn94 x1 x2 hA hB hx h hf
              refine zr_iload hO (hl := rfl) (j := 5) dX3_lays_94 ?_
              refine zr_aload_n hO (hl := rfl) (j := 0) (hi := rfl) dX3_lays_96 ?_
              refine zs_arr hO hf 15 dX3_lays_97 q2985 (Nat.le_of_ble_eq_true rfl) rfl ?_
              refine zr_iload_n hO (hl := rfl) (j := 3) (hi := rfl) dX3_lays_100 ?_
              refine zs_ild hO hf 15 (f := τ1.2 15) (n := 960) (j := k.toNat) dX3_lays_101 rfl rfl rfl (hA 15 (by decide) (by decide)) (by omega) (by omega) rfl (fun ⟨r4a, r4b⟩ => ?_)
              rw [show ((τ1.2 15) k.toNat) = gM g k.toNat from hrk.2.1]
              refine zr_icmp_ge hO ⟨by omega, by omega⟩ ⟨by omega, by omega⟩ (tgt := 134) dX3_lays_102 rfl (fun c102 => ?_) (fun c102 => ?_)
              · skip
                refine zr_iinc hO (L' := [(3, zi (k + 1)), (0, zp r), (1, zi th), (2, zi as), (4, zi fd), (5, zi x)]) (j := 3) dX3_lays_134 rfl (Nat.le_of_ble_eq_true rfl) rfl ?_
                refine zr_goto hO (tgt := 40) dX3_lays_137 rfl ?_
                refine zV.loc [1, 2, 3, 0] rfl ?_
                exact ih40 _ (by omega) ρ (k + 1) rfl (by omega) (by omega) (hA) (hB) (by rw [show (k + 1).toNat = k.toNat + 1 by omega]; exact zHx_e hx (by omega)) h hf
              · skip
                have hxx := hx x (by omega) (by omega)
                have hdi := gdk_in g x (if x < x then k.toNat + 1 else k.toNat)
                rw [← hxx.1, if_neg (Int.lt_irrefl x)] at hdi
                refine zr_aload_n hO (hl := rfl) (j := 0) (hi := rfl) dX3_lays_105 ?_
                refine zs_arr hO hf 20 dX3_lays_106 q2990 (Nat.le_of_ble_eq_true rfl) rfl ?_
                refine zr_iload hO (hl := rfl) (j := 5) dX3_lays_109 ?_
                refine zr_dup2 hO rfl rfl dX3_lays_111 ?_
                refine zs_ild hO hf 20 (f := ρ.2 20) (n := 82) (j := x.toNat) dX3_lays_112 rfl rfl rfl rfl (by omega) (by omega) rfl (fun ⟨r5a, r5b⟩ => ?_)
                refine zr_iconst hO dX3_lays_113 ?_
                refine zr_iadd hO dX3_lays_114 ?_
                refine zs_ist hO hI hf 20 (f := ρ.2 20) (n := 82) (j := x.toNat) dX3_lays_115 rfl rfl rfl rfl (by omega) (by omega) rfl ⟨by omega, by omega⟩ (fun h hf => ?_)
                refine zr_aload_n hO (hl := rfl) (j := 0) (hi := rfl) dX3_lays_116 ?_
                refine zs_arr hO hf 21 dX3_lays_117 q2991 (Nat.le_of_ble_eq_true rfl) rfl ?_
                refine zr_iload hO (hl := rfl) (j := 5) dX3_lays_120 ?_
                refine zr_dup2 hO rfl rfl dX3_lays_122 ?_
                refine zs_zld hO hf 21 (f := ρ.2 21) (n := 82) (j := x.toNat) dX3_lays_123 rfl rfl rfl rfl (by omega) (by omega) rfl (fun r6 => ?_)
                refine zr_iload hO (hl := rfl) (j := 4) dX3_lays_124 ?_
                refine zr_ior hO (x := zB ((ρ.2 21) x.toNat = 1 ∨ fd = 1)) (zI_or01 r6 hfd2) dX3_lays_126 ?_
                refine zs_zst hO hI hf 21 (f := ρ.2 21) (n := 82) (j := x.toNat) dX3_lays_127 rfl rfl rfl rfl (by omega) (by omega) rfl (zB_01 _) (fun h hf => ?_)
                refine zr_iinc hO (L' := [(5, zi (x + 1)), (0, zp r), (1, zi th), (2, zi as), (3, zi k), (4, zi fd)]) (j := 5) dX3_lays_128 rfl (Nat.le_of_ble_eq_true rfl) rfl ?_
                refine zr_goto hO (tgt := 94) dX3_lays_131 rfl ?_
                refine zV.loc [1, 2, 3, 4, 5, 0] rfl ?_
                exact ih94 _ (by omega) (zuA (zuA ρ 20 (zset (ρ.2 20) x.toNat (((ρ.2 20) x.toNat) + 1))) 21 (zset (ρ.2 21) x.toNat (zB ((ρ.2 21) x.toNat = 1 ∨ fd = 1)))) (x + 1) rfl (by omega) (by omega) (by intro k a b; simp only [zuA]; (try rw [zset_n b]); (try rw [zset_n a]); (try rw [zset_n b]); exact hA k a b) (hB) (zHx_s hx (by omega) (by omega) (by omega) hfd) h hf
            refine zV.loc [2, 3, 4, 5, 1, 0] rfl ?_
            exact hl94 _ ρ ((gF g k.toNat) + 1) rfl (by omega) (by omega) (hA) (hB) (zHx_0 hk) h hf
          refine zr_aload_n hO (hl := rfl) (j := 0) (hi := rfl) dX3_lays_48 ?_
          refine zs_arr hO hf 14 dX3_lays_49 q2984 (Nat.le_of_ble_eq_true rfl) rfl ?_
          refine zr_iload_n hO (hl := rfl) (j := 3) (hi := rfl) dX3_lays_52 ?_
          refine zs_ild hO hf 14 (f := τ1.2 14) (n := 960) (j := k.toNat) dX3_lays_53 rfl rfl rfl (hA 14 (by decide) (by decide)) (by omega) (by omega) rfl (fun ⟨r7a, r7b⟩ => ?_)
          rw [show ((τ1.2 14) k.toNat) = gF g k.toNat from hrk.1]
          refine zr_iload_n hO (hl := rfl) (j := 1) (hi := rfl) dX3_lays_54 ?_
          refine zr_icmp_ne hO ⟨by omega, by omega⟩ ⟨by omega, by omega⟩ (tgt := 62) dX3_lays_55 rfl (fun c55 => ?_) (fun c55 => ?_)
          · skip
            refine zr_aload_n hO (hl := rfl) (j := 0) (hi := rfl) dX3_lays_62 ?_
            refine zr_aload_n hO (hl := rfl) (j := 0) (hi := rfl) dX3_lays_63 ?_
            refine zs_arr hO hf 14 dX3_lays_64 q2984 (Nat.le_of_ble_eq_true rfl) rfl ?_
            refine zr_iload_n hO (hl := rfl) (j := 3) (hi := rfl) dX3_lays_67 ?_
            refine zs_ild hO hf 14 (f := τ1.2 14) (n := 960) (j := k.toNat) dX3_lays_68 rfl rfl rfl (hA 14 (by decide) (by decide)) (by omega) (by omega) rfl (fun ⟨r8a, r8b⟩ => ?_)
            rw [show ((τ1.2 14) k.toNat) = gF g k.toNat from hrk.1]
            refine zr_iconst hO dX3_lays_69 ?_
            refine zr_cVi hO zc_X3 zw_X3_129 (c_X3_of hI hf ((hA 1 (by decide) (by decide)).trans ((hs1.2 1 rfl).trans hg)) (gF g k.toNat) 1 (by omega) (by omega)) dX3_lays_70 (zrd_of hf.1) rfl (rest := []) rfl ⟨Nat.le_of_ble_eq_true rfl, Nat.le_of_ble_eq_true rfl⟩ (Nat.le_of_ble_eq_true rfl) (Nat.le_refl _) (Nat.le_refl _) (fun x h hx => ?_)
            obtain ⟨hx, ⟨r9a, r9b⟩, hf⟩ := hx
            have hx : x = gcl g (gF g k.toNat) := hx
            subst hx
            refine zr_iconst hO dX3_lays_73 ?_
            refine zr_icmp_ne hO ⟨by omega, by omega⟩ ⟨by omega, by omega⟩ (tgt := 81) dX3_lays_74 rfl (fun c74 => ?_) (fun c74 => ?_)
            · skip
              refine zr_iconst hO dX3_lays_81 ?_
              exact hj82 0 (by unfold gc2; rw [zB_f]; split <;> omega) h hf
            · skip
              refine zr_iconst hO dX3_lays_77 ?_
              refine zr_goto hO (tgt := 82) dX3_lays_78 rfl ?_
              exact hj82 1 (by unfold gc2; rw [zB_t]; split <;> omega) h hf
          · skip
            refine zr_iload_n hO (hl := rfl) (j := 2) (hi := rfl) dX3_lays_58 ?_
            refine zr_goto hO (tgt := 73) dX3_lays_59 rfl ?_
            refine zr_iconst hO dX3_lays_73 ?_
            refine zr_icmp_ne hO ⟨by omega, by omega⟩ ⟨by omega, by omega⟩ (tgt := 81) dX3_lays_74 rfl (fun c74 => ?_) (fun c74 => ?_)
            · skip
              refine zr_iconst hO dX3_lays_81 ?_
              exact hj82 0 (by unfold gc2; rw [zB_f]; split <;> omega) h hf
            · skip
              refine zr_iconst hO dX3_lays_77 ?_
              refine zr_goto hO (tgt := 82) dX3_lays_78 rfl ?_
              exact hj82 1 (by unfold gc2; rw [zB_t]; split <;> omega) h hf
      refine zV.loc [1, 2, 3, 0] rfl ?_
      exact hl40 _ ρ 0 rfl (by omega) (by omega) (hA) (hB) (zHk_0 (fun m a b => hz m a (by omega))) h hf
    · skip
      refine zr_aload_n hO (hl := rfl) (j := 0) (hi := rfl) dX3_lays_18 ?_
      refine zs_arr hO hf 20 dX3_lays_19 q2990 (Nat.le_of_ble_eq_true rfl) rfl ?_
      refine zr_iload_n hO (hl := rfl) (j := 3) (hi := rfl) dX3_lays_22 ?_
      refine zr_iconst hO dX3_lays_23 ?_
      refine zs_ist hO hI hf 20 (f := ρ.2 20) (n := 82) (j := n.toNat) dX3_lays_24 rfl rfl rfl rfl (by omega) (by omega) rfl ⟨by omega, by omega⟩ (fun h hf => ?_)
      refine zr_aload_n hO (hl := rfl) (j := 0) (hi := rfl) dX3_lays_25 ?_
      refine zs_arr hO hf 21 dX3_lays_26 q2991 (Nat.le_of_ble_eq_true rfl) rfl ?_
      refine zr_iload_n hO (hl := rfl) (j := 3) (hi := rfl) dX3_lays_29 ?_
      refine zr_iconst hO dX3_lays_30 ?_
      refine zs_zst hO hI hf 21 (f := ρ.2 21) (n := 82) (j := n.toNat) dX3_lays_31 rfl rfl rfl rfl (by omega) (by omega) rfl (Or.inl rfl) (fun h hf => ?_)
      refine zr_iinc hO (L' := [(3, zi (n + 1)), (0, zp r), (1, zi th), (2, zi as)]) (j := 3) dX3_lays_32 rfl (Nat.le_of_ble_eq_true rfl) rfl ?_
      refine zr_goto hO (tgt := 6) dX3_lays_35 rfl ?_
      refine zV.loc [1, 2, 3, 0] rfl ?_
      exact ih6 _ (by omega) (zuA (zuA ρ 20 (zset (ρ.2 20) n.toNat 0)) 21 (zset (ρ.2 21) n.toNat 0)) (n + 1) rfl (by omega) (by omega) (by intro k a b; simp only [zuA]; (try rw [zset_n b]); (try rw [zset_n a]); (try rw [zset_n b]); exact hA k a b) (hB) (fun m a b => by show zset (ρ.2 20) n.toNat 0 m.toNat = 0 ∧ zset (ρ.2 21) n.toNat 0 m.toNat = 0; by_cases e : m = n; (rw [e, zset_s, zset_s]; exact ⟨rfl, rfl⟩); (rw [zset_n (by omega), zset_n (by omega)]; exact hz m a (by omega))) h hf
  refine zV.loc [1, 2, 3, 0] rfl ?_
  exact hl6 _ τ1 0 rfl (by omega) (by omega) (fun k a b => rfl) (fun k => rfl) (fun m a b => by omega) h hf
theorem zw_X3_164 : zYw RX3 RX3 164 yX3_lays cX3_lays 6 none 2 := ⟨q3124, q3126, qs52, q116, q3127, rfl, ⟨by decide +kernel, by decide +kernel, by decide +kernel⟩⟩
theorem c_X3_layAll {G : zG} {r : Nat} {ad : Nat → Nat} {h0 : zHp} (hI : zRI r ad) {σ : zS} {h : zHp} (hf : zRf r ad σ h0 h) {g : Nat → Int} (hg : σ.2 1 = g) (hw : zwf g) : zC G yX3_layAll cX3_layAll 1 none 6 137 0 0 [zp r] h (zPv (fun h' => ∃ τ : zS, zSm σ τ ∧ zLd g (gcl g) τ ∧ zRf r ad τ h0 h') zNo) := by
  refine zC.of zpn_X3 (Nat.le_of_ble_eq_true rfl) (L := [(0, zp r)]) rfl (fun K hO => ?_)
  refine zr_aload_n hO (hl := rfl) (j := 0) (hi := rfl) dX3_layAll_0 ?_
  refine zr_iconst hO dX3_layAll_1 ?_
  refine zr_iconst hO dX3_layAll_2 ?_
  refine zr_cVv hO zc_X3 zw_X3_164 (c_X3_lays hI hf hg 0 0 (hw) (⟨by omega, by omega⟩) (⟨by omega, by omega⟩)) dX3_layAll_3 (zrd_of hf.1) rfl (rest := []) rfl ⟨Nat.le_of_ble_eq_true rfl, Nat.le_of_ble_eq_true rfl⟩ (Nat.le_of_ble_eq_true rfl) (Nat.le_refl _) (Nat.le_refl _) (fun h hx => ?_)
  obtain ⟨τ1, hs1, hd1, hf⟩ := hx
  exact zr_return hO dX3_layAll_6 ⟨_, ((zSm.refl σ).trans hs1), zLd_cc hw hd1, hf⟩
