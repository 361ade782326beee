/-! THE REFERENCE: folding (printed by gen/refs.py) -/
theorem c_X3_fold {G : zG} {r : Nat} {ad : Nat → Nat} {h0 : zHp} (hI : zRI r ad) {σ : zS} {h : zHp} (hf : zRf r ad σ h0 h) {g : Nat → Int} (hg : σ.2 1 = g) {b : Nat → Int} (hb : σ.2 7 = b) {A : Nat → Int} (hA : σ.2 3 = A) {o : Nat → Int} (ho : σ.2 27 = o) {m9 : Nat → Int} (hm9 : σ.2 28 = m9) {q : Int} (hq : σ.1 8 = q) {u : Int} (hu : σ.1 6 = u) (n : Int) (hn : zR n) (hu1 : 0 ≤ u) (hu2 : u ≤ 8) (hq1 : 0 ≤ q) (hq2 : q ≤ 700) (hw : zwf g) : zC G yX3_fold cX3_fold 4 (some Jvm.ClassFile.FieldType.int) 8 180 0 0 [zp r, zi n] h (zPi (fun x h' => x = (if (1 ≤ n ∧ n ≤ g 0) ∧ ginn g n ≠ -1 then gF g (ginn g n).toNat else 0) ∧ ∃ τ : zS, τ.1 0 = (if zB (1 ≤ n ∧ n ≤ g 0) = 0 then 1 else 2 - 2 * zB ((if 1 ≤ n ∧ n ≤ g 0 then ginn g n else -1) ≠ -1)) ∧ zCo (if (1 ≤ n ∧ n ≤ g 0) ∧ ginn g n ≠ -1 then zuA (zuS (zuA σ 3 (grem A g u)) 6 (gret u)) 1 (zset g (35 + 27 * (gF g (ginn g n).toNat - 1) + 1).toNat 1) else σ) τ ∧ zRf r ad τ h0 h') zNo) := by
  refine zC.of zpn_X3 (Nat.le_of_ble_eq_true rfl) (L := [(0, zp r), (1, zi n)]) rfl (fun K hO => ?_)
  obtain ⟨w1, w2, w3⟩ := id hw
  obtain ⟨hna, hnb⟩ := hn
  have hgi := ginn_in g n
  have hN := gN_le g
  refine zr_aload_n hO (hl := rfl) (j := 0) (hi := rfl) dX3_fold_0 ?_
  refine zr_iload_n hO (hl := rfl) (j := 1) (hi := rfl) dX3_fold_1 ?_
  refine zr_cVi hO zc_X3 zw_X3_167 (c_X3_isLine hI hf hg n (⟨by omega, by omega⟩)) dX3_fold_2 (zrd_of hf.1) rfl (rest := []) rfl ⟨Nat.le_of_ble_eq_true rfl, Nat.le_of_ble_eq_true rfl⟩ (Nat.le_of_ble_eq_true rfl) (Nat.le_refl _) (Nat.le_refl _) (fun x h hx => ?_)
  obtain ⟨hx, hf⟩ := hx
  have hx : x = zB (1 ≤ n ∧ n ≤ g 0) := hx
  subst hx
  refine zr_istore_n hO (L' := [(2, zi (zB (1 ≤ n ∧ n ≤ g 0))), (0, zp r), (1, zi n)]) (hi := rfl) dX3_fold_5 (Nat.le_of_ble_eq_true rfl) rfl ?_
  have hj19 : ∀ (ρ : zS) (d : Int) (hS : zSm σ ρ) (hd : (if 1 ≤ n ∧ n ≤ g 0 then ginn g n else -1) = d) (hL : 1 ≤ n ∧ n ≤ g 0 → zLd g (gcl g) ρ) (h : zHp) (hf : zRf r ad ρ h0 h), zV G K 0 0 h 19 [(2, zi (zB (1 ≤ n ∧ n ≤ g 0))), (0, zp r), (1, zi n)] [zi d] := by
    intro ρ d hS hd hL h hf
    have hdr : d = -1 ∨ (1 ≤ n ∧ n ≤ g 0 ∧ d = ginn g n) := by rw [← hd]; split; exact Or.inr ⟨by assumption, rfl⟩; exact Or.inl rfl
    refine zr_istore_n hO (L' := [(3, zi d), (2, zi (zB (1 ≤ n ∧ n ≤ g 0))), (0, zp r), (1, zi n)]) (hi := rfl) dX3_fold_19 (Nat.le_of_ble_eq_true rfl) rfl ?_
    have hj32 : ∀ (b1 : Int) (hb1 : b1 = zB (d ≠ -1)) (h : zHp) (hf : zRf r ad ρ h0 h), zV G K 0 0 h 32 [(3, zi d), (2, zi (zB (1 ≤ n ∧ n ≤ g 0))), (0, zp r), (1, zi n)] [zi b1, zi (zB (1 ≤ n ∧ n ≤ g 0)), zp r] := by
      intro b1 hb1 h hf
      subst hb1
      refine zr_cVi hO zc_X3 zw_X3_170 (c_X3_mayBoth hI hf (zB (1 ≤ n ∧ n ≤ g 0)) (zB (d ≠ -1)) (zB_01 _) (zB_01 _)) dX3_fold_32 (zrd_of hf.1) rfl (rest := []) rfl ⟨Nat.le_of_ble_eq_true rfl, Nat.le_of_ble_eq_true rfl⟩ (Nat.le_of_ble_eq_true rfl) (Nat.le_refl _) (Nat.le_refl _) (fun x h hx => ?_)
      obtain ⟨hx, hf⟩ := hx
      have hx : x = zB ((zB (1 ≤ n ∧ n ≤ g 0)) = 1 ∧ (zB (d ≠ -1)) = 1) := hx
      subst hx
      have hf : zRf r ad (zuS ρ 0 (if (zB (1 ≤ n ∧ n ≤ g 0)) = 0 then 1 else 2 - 2 * (zB (d ≠ -1)))) h0 h := hf
      rw [show (zB ((zB (1 ≤ n ∧ n ≤ g 0)) = 1 ∧ (zB (d ≠ -1)) = 1)) = zB ((1 ≤ n ∧ n ≤ g 0) ∧ d ≠ -1) from zB_and _ _]
      refine zr_if_ne hO (zR_B _) (tgt := 40) dX3_fold_35 rfl (fun c35 => ?_) (fun c35 => ?_)
      · skip
        have c35 := zB_ne c35
        have hd1 := hL c35.1
        have hrk := hd1.2.1.2 d.toNat (by omega)
        have hgk := g_rows hw (r := d.toNat) (by omega)
        have hdg : d = ginn g n := by omega
        refine zr_aload_n hO (hl := rfl) (j := 2) (hi := rfl) dX3_fold_40 ?_
        refine zr_cVv hO zc_X3 zw_X3_294 (c_X3_remembers hI hf ((hS.2 1 rfl).trans hg) ((hS.2 3 rfl).trans hA) ((hS.1 6 (by decide) (by decide)).trans hu)  (by omega) (by omega)) dX3_fold_41 (zrd_of hf.1) rfl (rest := []) rfl ⟨Nat.le_of_ble_eq_true rfl, Nat.le_of_ble_eq_true rfl⟩ (Nat.le_of_ble_eq_true rfl) (Nat.le_refl _) (Nat.le_refl _) (fun h hx => ?_)
        have hf : zRf r ad (zuS (zuA (zuS ρ 0 (if (zB (1 ≤ n ∧ n ≤ g 0)) = 0 then 1 else 2 - 2 * (zB (d ≠ -1)))) 3 (grem A g u)) 6 (gret u)) h0 h := hx
        clear hx
        refine zr_aload_n hO (hl := rfl) (j := 2) (hi := rfl) dX3_fold_44 ?_
        refine zs_arr hO hf 1 dX3_fold_45 q2971 (Nat.le_of_ble_eq_true rfl) rfl ?_
        refine zr_aload_n hO (hl := rfl) (j := 2) (hi := rfl) dX3_fold_48 ?_
        refine zs_arr hO hf 14 dX3_fold_49 q2984 (Nat.le_of_ble_eq_true rfl) rfl ?_
        refine zr_iload_n hO (hl := rfl) (j := 0) (hi := rfl) dX3_fold_52 ?_
        refine zs_ild hO hf 14 (f := ρ.2 14) (n := 960) (j := d.toNat) dX3_fold_53 rfl rfl rfl rfl (by omega) (by omega) rfl (fun ⟨r3a, r3b⟩ => ?_)
        rw [show ((ρ.2 14) d.toNat) = gF g d.toNat from hrk.1]
        refine zr_cSi hO zw_X3_125 (c_X3_lineAt (gF g d.toNat)) dX3_fold_54 rfl (rest := [zp (ad 1)]) rfl ⟨Nat.le_of_ble_eq_true rfl, Nat.le_of_ble_eq_true rfl⟩ (Nat.le_of_ble_eq_true rfl) (Nat.le_refl _) (Nat.le_refl _) (fun x h hx => ?_)
        obtain ⟨hx, rfl⟩ := hx
        have hx : x = 35 + 27 * ((gF g d.toNat) - 1) := hx
        subst hx
        refine zr_iconst hO dX3_fold_57 ?_
        refine zr_iadd hO dX3_fold_58 ?_
        refine zr_iconst hO dX3_fold_59 ?_
        refine zs_ist hO hI hf 1 (f := g) (n := 2195) (j := (35 + 27 * (gF g d.toNat - 1) + 1).toNat) dX3_fold_60 rfl rfl rfl ((hS.2 1 rfl).trans hg) (by omega) (by omega) rfl ⟨by omega, by omega⟩ (fun h hf => ?_)
        refine zr_aload_n hO (hl := rfl) (j := 2) (hi := rfl) dX3_fold_61 ?_
        refine zs_arr hO hf 14 dX3_fold_62 q2984 (Nat.le_of_ble_eq_true rfl) rfl ?_
        refine zr_iload_n hO (hl := rfl) (j := 0) (hi := rfl) dX3_fold_65 ?_
        refine zs_ild hO hf 14 (f := ρ.2 14) (n := 960) (j := d.toNat) dX3_fold_66 rfl rfl rfl rfl (by omega) (by omega) rfl (fun ⟨r4a, r4b⟩ => ?_)
        rw [show ((ρ.2 14) d.toNat) = gF g d.toNat from hrk.1]
        exact zr_ireturn hO dX3_fold_67 ⟨(by rw [if_pos (by omega), ← hdg]), (zuA (zuS (zuA (zuS ρ 0 (if (zB (1 ≤ n ∧ n ≤ g 0)) = 0 then 1 else 2 - 2 * (zB (d ≠ -1)))) 3 (grem A g u)) 6 (gret u)) 1 (zset g ((35 + 27 * (gF g d.toNat - 1) + 1).toNat) 1)), (by rw [hd]; exact rfl), (by rw [if_pos (by omega), ← hdg]; exact zCo.eq ((((((zCo.refl σ).tr hS).uS (k := 0) (by decide) (if (zB (1 ≤ n ∧ n ≤ g 0)) = 0 then 1 else 2 - 2 * (zB (d ≠ -1)))).cA 3 (grem A g u)).cS 6 (gret u)).cA 1 (zset g ((35 + 27 * (gF g d.toNat - 1) + 1).toNat) 1)) (fun k => by simp only [zuS, zuA, zset] <;> (repeat' split) <;> first | rfl | omega) (fun k hk => by simp only [zuS, zuA, zset] <;> (repeat' split) <;> first | rfl | omega)), hf⟩
      · skip
        have c35 := zB_eq c35
        refine zr_iconst hO dX3_fold_38 ?_
        exact zr_ireturn hO dX3_fold_39 ⟨(by rw [if_neg (fun q => by omega)]), (zuS ρ 0 (if (zB (1 ≤ n ∧ n ≤ g 0)) = 0 then 1 else 2 - 2 * (zB (d ≠ -1)))), (by rw [hd]; exact rfl), (by rw [if_neg (fun q => by omega)]; exact (((zCo.refl σ).tr hS).uS (k := 0) (by decide) (if (zB (1 ≤ n ∧ n ≤ g 0)) = 0 then 1 else 2 - 2 * (zB (d ≠ -1))))), hf⟩
    refine zr_aload_n hO (hl := rfl) (j := 2) (hi := rfl) dX3_fold_20 ?_
    refine zr_iload_n hO (hl := rfl) (j := 1) (hi := rfl) dX3_fold_21 ?_
    refine zr_iload_n hO (hl := rfl) (j := 0) (hi := rfl) dX3_fold_22 ?_
    refine zr_iconst hO dX3_fold_23 ?_
    refine zr_icmp_eq hO ⟨by omega, by omega⟩ ⟨by omega, by omega⟩ (tgt := 31) dX3_fold_24 rfl (fun c24 => ?_) (fun c24 => ?_)
    · skip
      refine zr_iconst hO dX3_fold_31 ?_
      exact hj32 0 ((zB_f (by omega)).symm) h hf
    · skip
      refine zr_iconst hO dX3_fold_27 ?_
      refine zr_goto hO (tgt := 32) dX3_fold_28 rfl ?_
      exact hj32 1 ((zB_t (by omega)).symm) h hf
  refine zr_iload_n hO (hl := rfl) (j := 0) (hi := rfl) dX3_fold_6 ?_
  refine zr_if_eq hO (zR_B _) (tgt := 18) dX3_fold_7 rfl (fun c7 => ?_) (fun c7 => ?_)
  · skip
    have c7 := zB_eq c7
    refine zr_iconst hO dX3_fold_18 ?_
    exact hj19 σ (-1) ((zSm.refl σ)) (if_neg (by omega)) (fun q => absurd q (by omega)) h hf
  · skip
    have c7 := zB_ne c7
    refine zr_aload_n hO (hl := rfl) (j := 1) (hi := rfl) dX3_fold_10 ?_
    refine zr_iload_n hO (hl := rfl) (j := 2) (hi := rfl) dX3_fold_11 ?_
    refine zr_cVi hO zc_X3 zw_X3_236 (c_X3_innermost hI hf hg n (⟨by omega, by omega⟩) (hw)) dX3_fold_12 (zrd_of hf.1) rfl (rest := []) rfl ⟨Nat.le_of_ble_eq_true rfl, Nat.le_of_ble_eq_true rfl⟩ (Nat.le_of_ble_eq_true rfl) (Nat.le_refl _) (Nat.le_refl _) (fun x h hx => ?_)
    obtain ⟨hxv, τ1, hs1, hd1, hf⟩ := hx
    have hxv : x = ginn g n := hxv
    rw [hxv]
    refine zr_goto hO (tgt := 19) dX3_fold_15 rfl ?_
    exact hj19 τ1 (ginn g n) (((zSm.refl σ).trans hs1)) (if_pos (by omega)) (fun _ => hd1) h hf
