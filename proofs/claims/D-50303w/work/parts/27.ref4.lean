/-! THE REFERENCE: what is asked of a page that is laid out (printed by gen/refs.py) -/
theorem zw_X3_167 : zYw RX3 RX3 167 yX3_isLine cX3_isLine 2 (some Jvm.ClassFile.FieldType.boolean) 1 := ⟨q3112, q3114, qs49, q116, q3115, rfl, ⟨by decide +kernel, by decide +kernel, by decide +kernel⟩⟩
theorem zw_X3_111 : zYw RX3 RX3 111 yX3_may cX3_may 2 (some Jvm.ClassFile.FieldType.boolean) 1 := ⟨q3086, q3088, qs45, q116, q3089, rfl, ⟨by decide +kernel, by decide +kernel, by decide +kernel⟩⟩
theorem zw_X3_174 : zYw RX3 RX3 174 yX3_layAll cX3_layAll 1 none 0 := ⟨q3120, q3122, qs51, q116, q3123, rfl, ⟨by decide +kernel, by decide +kernel, by decide +kernel⟩⟩
theorem zw_X3_177 : zYw RX3 RX3 177 yX3_rowOf cX3_rowOf 4 (some Jvm.ClassFile.FieldType.int) 1 := ⟨q3165, q3167, qs60, q116, q3168, rfl, ⟨by decide +kernel, by decide +kernel, by decide +kernel⟩⟩
theorem c_X3_rowNear {G : zG} {r : Nat} {ad : Nat → Nat} {h0 : zHp} (hI : zRI r ad) {σ : zS} {h : zHp} (hf : zRf r ad σ h0 h) {g : Nat → Int} (hg : σ.2 1 = g) (n : Int) (hn : zR n) (hw : zwf g) : zC G yX3_rowNear cX3_rowNear 2 (some Jvm.ClassFile.FieldType.int) 7 157 0 0 [zp r, zi n] h (zPi (fun x h' => x = (if 1 ≤ n ∧ n ≤ g 0 then grow g (gcl g) n else 0) ∧ ∃ τ : zS, τ.1 0 = (1 - zB (1 ≤ n ∧ n ≤ g 0)) ∧ zCo σ τ ∧ zRf r ad τ h0 h') zNo) := by
  refine zC.of zpn_X3 (Nat.le_of_ble_eq_true rfl) (L := [(0, zp r), (1, zi n)]) rfl (fun K hO => ?_)
  obtain ⟨w1, w2, w3⟩ := id hw
  obtain ⟨hna, hnb⟩ := hn
  refine zr_aload_n hO (hl := rfl) (j := 0) (hi := rfl) dX3_rowNear_0 ?_
  refine zr_aload_n hO (hl := rfl) (j := 0) (hi := rfl) dX3_rowNear_1 ?_
  refine zr_iload_n hO (hl := rfl) (j := 1) (hi := rfl) dX3_rowNear_2 ?_
  refine zr_cVi hO zc_X3 zw_X3_167 (c_X3_isLine hI hf hg n (⟨by omega, by omega⟩)) dX3_rowNear_3 (zrd_of hf.1) rfl (rest := [zp r]) rfl ⟨Nat.le_of_ble_eq_true rfl, Nat.le_of_ble_eq_true rfl⟩ (Nat.le_of_ble_eq_true rfl) (Nat.le_refl _) (Nat.le_refl _) (fun x h hx => ?_)
  obtain ⟨hx, hf⟩ := hx
  have hx : x = zB (1 ≤ n ∧ n ≤ g 0) := hx
  subst hx
  refine zr_cVi hO zc_X3 zw_X3_111 (c_X3_may hI hf (zB (1 ≤ n ∧ n ≤ g 0)) (zB_01 _)) dX3_rowNear_6 (zrd_of hf.1) rfl (rest := []) rfl ⟨Nat.le_of_ble_eq_true rfl, Nat.le_of_ble_eq_true rfl⟩ (Nat.le_of_ble_eq_true rfl) (Nat.le_refl _) (Nat.le_refl _) (fun x h hx => ?_)
  obtain ⟨hx, hf⟩ := hx
  have hx : x = (zB (1 ≤ n ∧ n ≤ g 0)) := hx
  subst hx
  have hf : zRf r ad (zuS σ 0 (1 - (zB (1 ≤ n ∧ n ≤ g 0)))) h0 h := hf
  refine zr_if_ne hO (zR_B _) (tgt := 14) dX3_rowNear_9 rfl (fun c9 => ?_) (fun c9 => ?_)
  · skip
    have c9 := zB_ne c9
    refine zr_aload_n hO (hl := rfl) (j := 0) (hi := rfl) dX3_rowNear_14 ?_
    refine zr_cVv hO zc_X3 zw_X3_174 (c_X3_layAll hI hf hg  (hw)) dX3_rowNear_15 (zrd_of hf.1) rfl (rest := []) rfl ⟨Nat.le_of_ble_eq_true rfl, Nat.le_of_ble_eq_true rfl⟩ (Nat.le_of_ble_eq_true rfl) (Nat.le_refl _) (Nat.le_refl _) (fun h hx => ?_)
    obtain ⟨τ1, hs1, hd1, hf⟩ := hx
    refine zr_aload_n hO (hl := rfl) (j := 0) (hi := rfl) dX3_rowNear_18 ?_
    refine zr_iload_n hO (hl := rfl) (j := 1) (hi := rfl) dX3_rowNear_19 ?_
    refine zr_cVi hO zc_X3 zw_X3_177 (c_X3_rowOf hI hf (rfl : τ1.2 21 = (τ1.2 21)) n (by omega) (by omega)) dX3_rowNear_20 (zrd_of hf.1) rfl (rest := []) rfl ⟨Nat.le_of_ble_eq_true rfl, Nat.le_of_ble_eq_true rfl⟩ (Nat.le_of_ble_eq_true rfl) (Nat.le_refl _) (Nat.le_refl _) (fun x h hx => ?_)
    obtain ⟨hx, hf⟩ := hx
    have hx : x = gshn ((τ1.2 21)) n := hx
    subst hx
    exact zr_ireturn hO dX3_rowNear_23 ⟨(by rw [if_pos c9]; exact gshn_of hd1.2.2 (by omega)), τ1, (((hs1.1 0 (by decide) (by decide)).trans rfl)), (((zCo.refl σ).uS (k := 0) (by decide) (1 - (zB (1 ≤ n ∧ n ≤ g 0)))).tr hs1), hf⟩
  · skip
    have c9 := zB_eq c9
    refine zr_iconst hO dX3_rowNear_12 ?_
    exact zr_ireturn hO dX3_rowNear_13 ⟨(by rw [if_neg c9]), (zuS σ 0 (1 - (zB (1 ≤ n ∧ n ≤ g 0)))), (rfl), ((zCo.refl σ).uS (k := 0) (by decide) (1 - (zB (1 ≤ n ∧ n ≤ g 0)))), hf⟩
theorem c_X3_lineIn {G : zG} {r : Nat} {ad : Nat → Nat} {h0 : zHp} (hI : zRI r ad) {σ : zS} {h : zHp} (hf : zRf r ad σ h0 h) {g : Nat → Int} (hg : σ.2 1 = g) (m : Int) (hm1 : 1 ≤ m) (hm2 : m ≤ grow g (gcl g) (g 0)) (hd : zHd g (gcl g) σ) (hw : zwf g) : zC G yX3_lineIn cX3_lineIn 3 (some Jvm.ClassFile.FieldType.int) 1 23 0 0 [zp r, zi m] h (zPi (fun x h' => x = gli g (gcl g) m ∧ zRf r ad σ h0 h') zNo) := by
  refine zC.of zpn_X3 (Nat.le_of_ble_eq_true rfl) (L := [(0, zp r), (1, zi m)]) rfl (fun K hO => ?_)
  obtain ⟨w1, w2, w3⟩ := id hw
  have hgi := grow_in g (gcl g) (N := g 0) w1
  refine zr_iconst hO dX3_lineIn_0 ?_
  refine zr_istore_n hO (L' := [(2, zi 1), (0, zp r), (1, zi m)]) (hi := rfl) dX3_lineIn_1 (Nat.le_of_ble_eq_true rfl) rfl ?_
  have hl2 : ∀ (n9 : Nat) (n : Int), (g 0 + 1 - n).toNat = n9 → ∀ (i1 : 1 ≤ n) (i2 : n ≤ g 0) (i3 : ∀ k, 1 ≤ k → k < n → ¬ (ghH g (gcl g) k.toNat = 0 ∧ m ≤ grow g (gcl g) k)) (i4 : grow g (gcl g) (n - 1) < m) (h : zHp) (hf : zRf r ad σ h0 h), zV G K 0 0 h 2 [(0, zp r), (1, zi m), (2, zi n)] [] := by
    intro n9
    induction n9 using Nat.strongRecOn with
    | _ n9 ih2 =>
    intro n hn2 i1 i2 i3 i4 h hf
    have hda := (zHd_at hd (n := n) (by omega) (by omega)).2
    have hgp := grow_p g (gcl g) i1
    refine zr_aload_n hO (hl := rfl) (j := 0) (hi := rfl) dX3_lineIn_2 ?_
    refine zs_arr hO hf 21 dX3_lineIn_3 q2991 (Nat.le_of_ble_eq_true rfl) rfl ?_
    refine zr_iload_n hO (hl := rfl) (j := 2) (hi := rfl) dX3_lineIn_6 ?_
    refine zs_zld hO hf 21 (f := σ.2 21) (n := 82) (j := n.toNat) dX3_lineIn_7 rfl rfl rfl rfl (by omega) (by omega) rfl (fun r1 => ?_)
    have hH01 := ghH_01 g (gcl g) n.toNat
    rw [show ((σ.2 21) n.toNat) = ghH g (gcl g) n.toNat from hda]
    refine zr_if_ne hO ⟨by omega, by omega⟩ (tgt := 20) dX3_lineIn_8 rfl (fun c8 => ?_) (fun c8 => ?_)
    · skip
      refine zr_iinc hO (L' := [(2, zi (n + 1)), (0, zp r), (1, zi m)]) (j := 2) dX3_lineIn_20 rfl (Nat.le_of_ble_eq_true rfl) rfl ?_
      refine zr_goto hO (tgt := 2) dX3_lineIn_23 rfl ?_
      refine zV.loc [1, 2, 0] rfl ?_
      exact ih2 _ (by omega) (n + 1) rfl (by omega) (by rcases Int.lt_or_le n (g 0) with q | q; omega; (exfalso; rw [show g 0 = n by omega] at hm2; first | (have := hgp; omega) | omega)) (fun k a b => by by_cases e : k = n; (rw [e]; intro q; first | (have := hgp; omega) | omega); exact i3 k a (by omega)) (by rw [show n + 1 - 1 = n by omega]; first | (have := hgp; omega) | omega) h hf
    · skip
      refine zr_aload_n hO (hl := rfl) (j := 0) (hi := rfl) dX3_lineIn_11 ?_
      refine zr_iload_n hO (hl := rfl) (j := 2) (hi := rfl) dX3_lineIn_12 ?_
      refine zr_cVi hO zc_X3 zw_X3_177 (c_X3_rowOf hI hf (rfl : σ.2 21 = (σ.2 21)) n (by omega) (by omega)) dX3_lineIn_13 (zrd_of hf.1) rfl (rest := []) rfl ⟨Nat.le_of_ble_eq_true rfl, Nat.le_of_ble_eq_true rfl⟩ (Nat.le_of_ble_eq_true rfl) (Nat.le_refl _) (Nat.le_refl _) (fun x h hx => ?_)
      obtain ⟨hx, hf⟩ := hx
      have hx : x = gshn ((σ.2 21)) n := hx
      subst hx
      have hgn := grow_in g (gcl g) (N := n) (by omega)
      rw [show (gshn ((σ.2 21)) n) = grow g (gcl g) n from (gshn_of hd (by omega))]
      refine zr_iload_n hO (hl := rfl) (j := 1) (hi := rfl) dX3_lineIn_16 ?_
      refine zr_icmp_ge hO ⟨by omega, by omega⟩ ⟨by omega, by omega⟩ (tgt := 26) dX3_lineIn_17 rfl (fun c17 => ?_) (fun c17 => ?_)
      · skip
        refine zr_iload_n hO (hl := rfl) (j := 2) (hi := rfl) dX3_lineIn_26 ?_
        exact zr_ireturn hO dX3_lineIn_27 ⟨(zfd_hit i1 i2 (decide_eq_true ⟨by omega, by omega⟩) (fun k a b => decide_eq_false (i3 k a b))).symm, hf⟩
      · skip
        refine zr_iinc hO (L' := [(2, zi (n + 1)), (0, zp r), (1, zi m)]) (j := 2) dX3_lineIn_20 rfl (Nat.le_of_ble_eq_true rfl) rfl ?_
        refine zr_goto hO (tgt := 2) dX3_lineIn_23 rfl ?_
        refine zV.loc [1, 2, 0] rfl ?_
        exact ih2 _ (by omega) (n + 1) rfl (by omega) (by rcases Int.lt_or_le n (g 0) with q | q; omega; (exfalso; rw [show g 0 = n by omega] at hm2; first | (have := hgp; omega) | omega)) (fun k a b => by by_cases e : k = n; (rw [e]; intro q; first | (have := hgp; omega) | omega); exact i3 k a (by omega)) (by rw [show n + 1 - 1 = n by omega]; first | (have := hgp; omega) | omega) h hf
  refine zV.loc [1, 2, 0] rfl ?_
  exact hl2 _ 1 rfl (by omega) (by rcases Int.lt_or_le 0 (g 0) with q | q; omega; (rw [show g 0 = 0 by omega] at hm2; exact absurd hm2 (by have : grow g (gcl g) 0 = 0 := rfl; omega))) (fun k a b => by omega) (by have : grow g (gcl g) 0 = 0 := rfl; rw [show (1 : Int) - 1 = 0 by omega]; omega) h hf
theorem c_X3_rowsBetween {G : zG} {r : Nat} {ad : Nat → Nat} {h0 : zHp} (hI : zRI r ad) {σ : zS} {h : zHp} (hf : zRf r ad σ h0 h) {g : Nat → Int} (hg : σ.2 1 = g) (n : Int) (m : Int) (hn : zR n) (hm : zR m) (hw : zwf g) : zC G yX3_rowsBetween cX3_rowsBetween 5 (some Jvm.ClassFile.FieldType.int) 7 157 0 0 [zp r, zi n, zi m] h (zPi (fun x h' => x = (if (1 ≤ n ∧ n ≤ g 0) ∧ (1 ≤ m ∧ m ≤ g 0) then grow g (gcl g) (max n m) - grow g (gcl g) (min n m) + (if ghH g (gcl g) (min n m).toNat = 0 then 1 else 0) else 0) ∧ ∃ τ : zS, τ.1 0 = (1 - zB ((1 ≤ n ∧ n ≤ g 0) ∧ (1 ≤ m ∧ m ≤ g 0))) ∧ zCo σ τ ∧ zRf r ad τ h0 h') zNo) := by
  refine zC.of zpn_X3 (Nat.le_of_ble_eq_true rfl) (L := [(0, zp r), (1, zi n), (2, zi m)]) rfl (fun K hO => ?_)
  obtain ⟨w1, w2, w3⟩ := id hw
  obtain ⟨hna, hnb⟩ := hn
  obtain ⟨hma, hmb⟩ := hm
  have hj22 : ∀ (b : Int) (hb : b = zB ((1 ≤ n ∧ n ≤ g 0) ∧ (1 ≤ m ∧ m ≤ g 0))) (h : zHp) (hf : zRf r ad σ h0 h), zV G K 0 0 h 22 [(0, zp r), (1, zi n), (2, zi m)] [zi b, zp r] := by
    intro b hb h hf
    subst hb
    refine zr_cVi hO zc_X3 zw_X3_111 (c_X3_may hI hf (zB ((1 ≤ n ∧ n ≤ g 0) ∧ (1 ≤ m ∧ m ≤ g 0))) (zB_01 _)) dX3_rowsBetween_22 (zrd_of hf.1) rfl (rest := []) rfl ⟨Nat.le_of_ble_eq_true rfl, Nat.le_of_ble_eq_true rfl⟩ (Nat.le_of_ble_eq_true rfl) (Nat.le_refl _) (Nat.le_refl _) (fun x h hx => ?_)
    obtain ⟨hx, hf⟩ := hx
    have hx : x = (zB ((1 ≤ n ∧ n ≤ g 0) ∧ (1 ≤ m ∧ m ≤ g 0))) := hx
    subst hx
    have hf : zRf r ad (zuS σ 0 (1 - (zB ((1 ≤ n ∧ n ≤ g 0) ∧ (1 ≤ m ∧ m ≤ g 0))))) h0 h := hf
    refine zr_if_ne hO (zR_B _) (tgt := 30) dX3_rowsBetween_25 rfl (fun c25 => ?_) (fun c25 => ?_)
    · skip
      have c25 := zB_ne c25
      refine zr_aload_n hO (hl := rfl) (j := 0) (hi := rfl) dX3_rowsBetween_30 ?_
      refine zr_cVv hO zc_X3 zw_X3_174 (c_X3_layAll hI hf hg  (hw)) dX3_rowsBetween_31 (zrd_of hf.1) rfl (rest := []) rfl ⟨Nat.le_of_ble_eq_true rfl, Nat.le_of_ble_eq_true rfl⟩ (Nat.le_of_ble_eq_true rfl) (Nat.le_refl _) (Nat.le_refl _) (fun h hx => ?_)
      obtain ⟨τ1, hs1, hd1, hf⟩ := hx
      refine zr_iload_n hO (hl := rfl) (j := 1) (hi := rfl) dX3_rowsBetween_34 ?_
      refine zr_iload_n hO (hl := rfl) (j := 2) (hi := rfl) dX3_rowsBetween_35 ?_
      refine zr_mmin hO ⟨by omega, by omega⟩ ⟨by omega, by omega⟩ dX3_rowsBetween_36 q3217 q520 q129 q521 (Nat.le_of_ble_eq_true rfl) (Nat.le_of_ble_eq_true rfl) (Nat.le_of_ble_eq_true rfl) ?_
      refine zr_istore_n hO (L' := [(3, zi (min n m)), (0, zp r), (1, zi n), (2, zi m)]) (hi := rfl) dX3_rowsBetween_39 (Nat.le_of_ble_eq_true rfl) rfl ?_
      refine zr_iload_n hO (hl := rfl) (j := 2) (hi := rfl) dX3_rowsBetween_40 ?_
      refine zr_iload_n hO (hl := rfl) (j := 3) (hi := rfl) dX3_rowsBetween_41 ?_
      refine zr_mmax hO ⟨by omega, by omega⟩ ⟨by omega, by omega⟩ dX3_rowsBetween_42 q3218 q502 q129 q503 (Nat.le_of_ble_eq_true rfl) (Nat.le_of_ble_eq_true rfl) (Nat.le_of_ble_eq_true rfl) ?_
      refine zr_istore hO (L' := [(4, zi (max n m)), (3, zi (min n m)), (0, zp r), (1, zi n), (2, zi m)]) dX3_rowsBetween_45 (Nat.le_of_ble_eq_true rfl) rfl ?_
      refine zr_aload_n hO (hl := rfl) (j := 2) (hi := rfl) dX3_rowsBetween_47 ?_
      refine zr_iload hO (hl := rfl) (j := 0) dX3_rowsBetween_48 ?_
      refine zr_cVi hO zc_X3 zw_X3_177 (c_X3_rowOf hI hf (rfl : τ1.2 21 = (τ1.2 21)) (max n m) (by omega) (by omega)) dX3_rowsBetween_50 (zrd_of hf.1) rfl (rest := []) rfl ⟨Nat.le_of_ble_eq_true rfl, Nat.le_of_ble_eq_true rfl⟩ (Nat.le_of_ble_eq_true rfl) (Nat.le_refl _) (Nat.le_refl _) (fun x h hx => ?_)
      obtain ⟨hx, hf⟩ := hx
      have hx : x = gshn ((τ1.2 21)) (max n m) := hx
      subst hx
      refine zr_aload_n hO (hl := rfl) (j := 2) (hi := rfl) dX3_rowsBetween_53 ?_
      refine zr_iload_n hO (hl := rfl) (j := 1) (hi := rfl) dX3_rowsBetween_54 ?_
      refine zr_cVi hO zc_X3 zw_X3_177 (c_X3_rowOf hI hf (rfl : τ1.2 21 = (τ1.2 21)) (min n m) (by omega) (by omega)) dX3_rowsBetween_55 (zrd_of hf.1) rfl (rest := [zi (gshn ((τ1.2 21)) (max n m))]) rfl ⟨Nat.le_of_ble_eq_true rfl, Nat.le_of_ble_eq_true rfl⟩ (Nat.le_of_ble_eq_true rfl) (Nat.le_refl _) (Nat.le_refl _) (fun x h hx => ?_)
      obtain ⟨hx, hf⟩ := hx
      have hx : x = gshn ((τ1.2 21)) (min n m) := hx
      subst hx
      refine zr_isub hO dX3_rowsBetween_58 ?_
      refine zr_aload_n hO (hl := rfl) (j := 2) (hi := rfl) dX3_rowsBetween_59 ?_
      refine zs_arr hO hf 21 dX3_rowsBetween_60 q2991 (Nat.le_of_ble_eq_true rfl) rfl ?_
      refine zr_iload_n hO (hl := rfl) (j := 1) (hi := rfl) dX3_rowsBetween_63 ?_
      refine zs_zld hO hf 21 (f := τ1.2 21) (n := 82) (j := (min n m).toNat) dX3_rowsBetween_64 rfl rfl rfl rfl (by omega) (by omega) rfl (fun r4 => ?_)
      have hH01 := ghH_01 g (gcl g) (min n m).toNat
      rw [show ((τ1.2 21) ((min n m).toNat)) = ghH g (gcl g) (min n m).toNat from (zHd_at hd1.2.2 (n := min n m) (by omega) (by omega)).2]
      refine zr_if_eq hO ⟨by omega, by omega⟩ (tgt := 72) dX3_rowsBetween_65 rfl (fun c65 => ?_) (fun c65 => ?_)
      · skip
        refine zr_iconst hO dX3_rowsBetween_72 ?_
        refine zr_iadd hO dX3_rowsBetween_73 ?_
        exact zr_ireturn hO dX3_rowsBetween_74 ⟨(by rw [if_pos c25]; rw [gshn_of hd1.2.2 (by omega), gshn_of hd1.2.2 (by omega), if_pos (by omega)]), τ1, (((hs1.1 0 (by decide) (by decide)).trans rfl)), (((zCo.refl σ).uS (k := 0) (by decide) (1 - (zB ((1 ≤ n ∧ n ≤ g 0) ∧ (1 ≤ m ∧ m ≤ g 0))))).tr hs1), hf⟩
      · skip
        refine zr_iconst hO dX3_rowsBetween_68 ?_
        refine zr_goto hO (tgt := 73) dX3_rowsBetween_69 rfl ?_
        refine zr_iadd hO dX3_rowsBetween_73 ?_
        exact zr_ireturn hO dX3_rowsBetween_74 ⟨(by rw [if_pos c25]; rw [gshn_of hd1.2.2 (by omega), gshn_of hd1.2.2 (by omega), if_neg (by omega)]), τ1, (((hs1.1 0 (by decide) (by decide)).trans rfl)), (((zCo.refl σ).uS (k := 0) (by decide) (1 - (zB ((1 ≤ n ∧ n ≤ g 0) ∧ (1 ≤ m ∧ m ≤ g 0))))).tr hs1), hf⟩
    · skip
      have c25 := zB_eq c25
      refine zr_iconst hO dX3_rowsBetween_28 ?_
      exact zr_ireturn hO dX3_rowsBetween_29 ⟨(by rw [if_neg c25]), (zuS σ 0 (1 - (zB ((1 ≤ n ∧ n ≤ g 0) ∧ (1 ≤ m ∧ m ≤ g 0))))), (rfl), ((zCo.refl σ).uS (k := 0) (by decide) (1 - (zB ((1 ≤ n ∧ n ≤ g 0) ∧ (1 ≤ m ∧ m ≤ g 0))))), hf⟩
  refine zr_aload_n hO (hl := rfl) (j := 0) (hi := rfl) dX3_rowsBetween_0 ?_
  refine zr_aload_n hO (hl := rfl) (j := 0) (hi := rfl) dX3_rowsBetween_1 ?_
  refine zr_iload_n hO (hl := rfl) (j := 1) (hi := rfl) dX3_rowsBetween_2 ?_
  refine zr_cVi hO zc_X3 zw_X3_167 (c_X3_isLine hI hf hg n (⟨by omega, by omega⟩)) dX3_rowsBetween_3 (zrd_of hf.1) rfl (rest := [zp r]) rfl ⟨Nat.le_of_ble_eq_true rfl, Nat.le_of_ble_eq_true rfl⟩ (Nat.le_of_ble_eq_true rfl) (Nat.le_refl _) (Nat.le_refl _) (fun x h hx => ?_)
  obtain ⟨hx, hf⟩ := hx
  have hx : x = zB (1 ≤ n ∧ n ≤ g 0) := hx
  subst hx
  refine zr_if_eq hO (zR_B _) (tgt := 21) dX3_rowsBetween_6 rfl (fun c6 => ?_) (fun c6 => ?_)
  · skip
    have c6 := zB_eq c6
    refine zr_iconst hO dX3_rowsBetween_21 ?_
    exact hj22 0 ((zB_f (by omega)).symm) h hf
  · skip
    have c6 := zB_ne c6
    refine zr_aload_n hO (hl := rfl) (j := 0) (hi := rfl) dX3_rowsBetween_9 ?_
    refine zr_iload_n hO (hl := rfl) (j := 2) (hi := rfl) dX3_rowsBetween_10 ?_
    refine zr_cVi hO zc_X3 zw_X3_167 (c_X3_isLine hI hf hg m (⟨by omega, by omega⟩)) dX3_rowsBetween_11 (zrd_of hf.1) rfl (rest := [zp r]) rfl ⟨Nat.le_of_ble_eq_true rfl, Nat.le_of_ble_eq_true rfl⟩ (Nat.le_of_ble_eq_true rfl) (Nat.le_refl _) (Nat.le_refl _) (fun x h hx => ?_)
    obtain ⟨hx, hf⟩ := hx
    have hx : x = zB (1 ≤ m ∧ m ≤ g 0) := hx
    subst hx
    refine zr_if_eq hO (zR_B _) (tgt := 21) dX3_rowsBetween_14 rfl (fun c14 => ?_) (fun c14 => ?_)
    · skip
      have c14 := zB_eq c14
      refine zr_iconst hO dX3_rowsBetween_21 ?_
      exact hj22 0 ((zB_f (by omega)).symm) h hf
    · skip
      have c14 := zB_ne c14
      refine zr_iconst hO dX3_rowsBetween_17 ?_
      refine zr_goto hO (tgt := 22) dX3_rowsBetween_18 rfl ?_
      exact hj22 1 ((zB_t (by omega)).symm) h hf
