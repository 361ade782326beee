/-! THE REFERENCE: changes (printed by gen/refs.py) -/
theorem zw_X3_291 : zYw RX3 RX3 291 yX3_isText cX3_isText 3 (some Jvm.ClassFile.FieldType.boolean) 1 := ⟨q3436, q3438, qs88, q116, q3439, rfl, ⟨by decide +kernel, by decide +kernel, by decide +kernel⟩⟩
theorem zw_X3_294 : zYw RX3 RX3 294 yX3_remembers cX3_remembers 2 none 0 := ⟨q3440, q3442, qs89, q116, q3443, rfl, ⟨by decide +kernel, by decide +kernel, by decide +kernel⟩⟩
theorem zw_X3_297 : zYw RX3 RX3 297 yX3_laysText cX3_laysText 4 none 2 := ⟨q3444, q3446, qs90, q116, q3447, rfl, ⟨by decide +kernel, by decide +kernel, by decide +kernel⟩⟩
theorem c_X3_replace {G : zG} {r : Nat} {ad : Nat → Nat} {h0 : zHp} (hI : zRI r ad) {σ : zS} {h : zHp} (hf : zRf r ad σ h0 h) {g : Nat → Int} (hg : σ.2 1 = g) {b : Nat → Int} (hb : σ.2 7 = b) {A : Nat → Int} (hA : σ.2 3 = A) {o : Nat → Int} (ho : σ.2 27 = o) {m9 : Nat → Int} (hm9 : σ.2 28 = m9) {q : Int} (hq : σ.1 8 = q) {u : Int} (hu : σ.1 6 = u) (n : Int) (m : Int) (hn : zR n) (hm : zR m) (hu1 : 0 ≤ u) (hu2 : u ≤ 8) (hq1 : 0 ≤ q) (hq2 : q ≤ 700) (hw : zwf g) : zC G yX3_replace cX3_replace 4 (some Jvm.ClassFile.FieldType.int) 3 64 0 0 [zp r, zi n, zi m] h (zPi (fun x h' => x = (if (1 ≤ n ∧ n ≤ g 0) ∧ (0 ≤ m ∧ m ≤ q) then (if gTx b m then gln g n else 0) else 0) ∧ ∃ τ : zS, τ.1 0 = (if (1 ≤ n ∧ n ≤ g 0) ∧ (0 ≤ m ∧ m ≤ q) then (if gTx b m then 0 else 2) else 1) ∧ zCo (if (1 ≤ n ∧ n ≤ g 0) ∧ (0 ≤ m ∧ m ≤ q) then (if gTx b m then zuA (zuS (zuA (zuS σ 8 0) 3 (grem A g u)) 6 (gret u)) 1 (gtxt g n b m) else zuS σ 8 0) else σ) τ ∧ zRf r ad τ h0 h') zNo) := by
  refine zC.of zpn_X3 (Nat.le_of_ble_eq_true rfl) (L := [(0, zp r), (1, zi n), (2, zi m)]) rfl (fun K hO => ?_)
  obtain ⟨w1, w2, w3⟩ := id hw
  obtain ⟨hna, hnb⟩ := hn
  obtain ⟨hma, hmb⟩ := hm
  have hj26 : ∀ (b : Int) (hb : b = zB ((1 ≤ n ∧ n ≤ g 0) ∧ (0 ≤ m ∧ m ≤ q))) (h : zHp) (hf : zRf r ad σ h0 h), zV G K 0 0 h 26 [(0, zp r), (1, zi n), (2, zi m)] [zi b, zp r] := by
    intro b hb h hf
    subst hb
    refine zr_cVi hO zc_X3 zw_X3_111 (c_X3_may hI hf (zB ((1 ≤ n ∧ n ≤ g 0) ∧ (0 ≤ m ∧ m ≤ q))) (zB_01 _)) dX3_replace_26 (zrd_of hf.1) rfl (rest := []) rfl ⟨Nat.le_of_ble_eq_true rfl, Nat.le_of_ble_eq_true rfl⟩ (Nat.le_of_ble_eq_true rfl) (Nat.le_refl _) (Nat.le_refl _) (fun x h hx => ?_)
    obtain ⟨hx, hf⟩ := hx
    have hx : x = (zB ((1 ≤ n ∧ n ≤ g 0) ∧ (0 ≤ m ∧ m ≤ q))) := hx
    subst hx
    have hf : zRf r ad (zuS σ 0 (1 - (zB ((1 ≤ n ∧ n ≤ g 0) ∧ (0 ≤ m ∧ m ≤ q))))) h0 h := hf
    refine zr_if_ne hO (zR_B _) (tgt := 34) dX3_replace_29 rfl (fun c29 => ?_) (fun c29 => ?_)
    · skip
      have c29 := zB_ne c29
      refine zr_aload_n hO (hl := rfl) (j := 0) (hi := rfl) dX3_replace_34 ?_
      refine zr_iconst hO dX3_replace_35 ?_
      refine zs_put hO hI hf 8 dX3_replace_36 q2978 (Nat.le_of_ble_eq_true rfl) rfl rfl rfl ⟨by omega, by omega⟩ (fun h hf => ?_)
      refine zr_aload_n hO (hl := rfl) (j := 0) (hi := rfl) dX3_replace_39 ?_
      refine zr_iload_n hO (hl := rfl) (j := 2) (hi := rfl) dX3_replace_40 ?_
      refine zr_cVi hO zc_X3 zw_X3_291 (c_X3_isText hI hf hb m (by omega) (by omega)) dX3_replace_41 (zrd_of hf.1) rfl (rest := []) rfl ⟨Nat.le_of_ble_eq_true rfl, Nat.le_of_ble_eq_true rfl⟩ (Nat.le_of_ble_eq_true rfl) (Nat.le_refl _) (Nat.le_refl _) (fun x h hx => ?_)
      obtain ⟨hx, hf⟩ := hx
      have hx : x = zB (gTx b m) := hx
      subst hx
      refine zr_if_ne hO (zR_B _) (tgt := 54) dX3_replace_44 rfl (fun c44 => ?_) (fun c44 => ?_)
      · skip
        have c44 := zB_ne c44
        have w3n := w3 n (by omega) (by omega)
        refine zr_aload_n hO (hl := rfl) (j := 0) (hi := rfl) dX3_replace_54 ?_
        refine zr_cVv hO zc_X3 zw_X3_294 (c_X3_remembers hI hf hg hA hu  (by omega) (by omega)) dX3_replace_55 (zrd_of hf.1) rfl (rest := []) rfl ⟨Nat.le_of_ble_eq_true rfl, Nat.le_of_ble_eq_true rfl⟩ (Nat.le_of_ble_eq_true rfl) (Nat.le_refl _) (Nat.le_refl _) (fun h hx => ?_)
        have hf : zRf r ad (zuS (zuA (zuS (zuS σ 0 (1 - (zB ((1 ≤ n ∧ n ≤ g 0) ∧ (0 ≤ m ∧ m ≤ q))))) 8 0) 3 (grem A g u)) 6 (gret u)) h0 h := hx
        clear hx
        refine zr_aload_n hO (hl := rfl) (j := 0) (hi := rfl) dX3_replace_58 ?_
        refine zr_iload_n hO (hl := rfl) (j := 1) (hi := rfl) dX3_replace_59 ?_
        refine zr_cVi hO zc_X3 zw_X3_139 (c_X3_length hI hf hg n (by omega) (by omega)) dX3_replace_60 (zrd_of hf.1) rfl (rest := []) rfl ⟨Nat.le_of_ble_eq_true rfl, Nat.le_of_ble_eq_true rfl⟩ (Nat.le_of_ble_eq_true rfl) (Nat.le_refl _) (Nat.le_refl _) (fun x h hx => ?_)
        obtain ⟨hx, ⟨r3a, r3b⟩, hf⟩ := hx
        have hx : x = gln g n := hx
        subst hx
        refine zr_istore_n hO (L' := [(3, zi (gln g n)), (0, zp r), (1, zi n), (2, zi m)]) (hi := rfl) dX3_replace_63 (Nat.le_of_ble_eq_true rfl) rfl ?_
        refine zr_aload_n hO (hl := rfl) (j := 1) (hi := rfl) dX3_replace_64 ?_
        refine zr_iload_n hO (hl := rfl) (j := 2) (hi := rfl) dX3_replace_65 ?_
        refine zr_iload_n hO (hl := rfl) (j := 3) (hi := rfl) dX3_replace_66 ?_
        refine zr_cVv hO zc_X3 zw_X3_297 (c_X3_laysText hI hf hg hb n m (by omega) (by omega) (by omega) (c44.1)) dX3_replace_67 (zrd_of hf.1) rfl (rest := []) rfl ⟨Nat.le_of_ble_eq_true rfl, Nat.le_of_ble_eq_true rfl⟩ (Nat.le_of_ble_eq_true rfl) (Nat.le_refl _) (Nat.le_refl _) (fun h hx => ?_)
        have hf : zRf r ad (zuA (zuS (zuA (zuS (zuS σ 0 (1 - (zB ((1 ≤ n ∧ n ≤ g 0) ∧ (0 ≤ m ∧ m ≤ q))))) 8 0) 3 (grem A g u)) 6 (gret u)) 1 (gtxt g n b m)) h0 h := hx
        clear hx
        refine zr_iload_n hO (hl := rfl) (j := 0) (hi := rfl) dX3_replace_70 ?_
        exact zr_ireturn hO dX3_replace_71 ⟨(by rw [if_pos c29, if_pos c44]), (zuA (zuS (zuA (zuS (zuS σ 0 (1 - (zB ((1 ≤ n ∧ n ≤ g 0) ∧ (0 ≤ m ∧ m ≤ q))))) 8 0) 3 (grem A g u)) 6 (gret u)) 1 (gtxt g n b m)), (by rw [if_pos c29, if_pos c44]; show 1 - zB ((1 ≤ n ∧ n ≤ g 0) ∧ (0 ≤ m ∧ m ≤ q)) = 0; rw [zB_t c29]; rfl), (by rw [if_pos c29, if_pos c44]; exact ((((((zCo.refl σ).uS (k := 0) (by decide) (1 - (zB ((1 ≤ n ∧ n ≤ g 0) ∧ (0 ≤ m ∧ m ≤ q))))).cS 8 0).cA 3 (grem A g u)).cS 6 (gret u)).cA 1 (gtxt g n b m))), hf⟩
      · skip
        have c44 := zB_eq c44
        refine zr_aload_n hO (hl := rfl) (j := 0) (hi := rfl) dX3_replace_47 ?_
        refine zr_iconst hO dX3_replace_48 ?_
        refine zs_put hO hI hf 0 dX3_replace_49 q2970 (Nat.le_of_ble_eq_true rfl) rfl rfl rfl ⟨by omega, by omega⟩ (fun h hf => ?_)
        refine zr_iconst hO dX3_replace_52 ?_
        exact zr_ireturn hO dX3_replace_53 ⟨(by rw [if_pos c29, if_neg c44]), (zuS (zuS (zuS σ 0 (1 - (zB ((1 ≤ n ∧ n ≤ g 0) ∧ (0 ≤ m ∧ m ≤ q))))) 8 0) 0 2), (by rw [if_pos c29, if_neg c44]; exact rfl), (by rw [if_pos c29, if_neg c44]; exact ((((zCo.refl σ).uS (k := 0) (by decide) (1 - (zB ((1 ≤ n ∧ n ≤ g 0) ∧ (0 ≤ m ∧ m ≤ q))))).cS 8 0).uS (k := 0) (by decide) 2)), hf⟩
    · skip
      have c29 := zB_eq c29
      refine zr_iconst hO dX3_replace_32 ?_
      exact zr_ireturn hO dX3_replace_33 ⟨(by rw [if_neg c29]), (zuS σ 0 (1 - (zB ((1 ≤ n ∧ n ≤ g 0) ∧ (0 ≤ m ∧ m ≤ q))))), (by rw [if_neg c29]; show 1 - zB ((1 ≤ n ∧ n ≤ g 0) ∧ (0 ≤ m ∧ m ≤ q)) = 1; rw [zB_f c29]; rfl), (by rw [if_neg c29]; exact ((zCo.refl σ).uS (k := 0) (by decide) (1 - (zB ((1 ≤ n ∧ n ≤ g 0) ∧ (0 ≤ m ∧ m ≤ q)))))), hf⟩
  refine zr_aload_n hO (hl := rfl) (j := 0) (hi := rfl) dX3_replace_0 ?_
  refine zr_aload_n hO (hl := rfl) (j := 0) (hi := rfl) dX3_replace_1 ?_
  refine zr_iload_n hO (hl := rfl) (j := 1) (hi := rfl) dX3_replace_2 ?_
  refine zr_cVi hO zc_X3 zw_X3_167 (c_X3_isLine hI hf hg n (⟨by omega, by omega⟩)) dX3_replace_3 (zrd_of hf.1) rfl (rest := [zp r]) rfl ⟨Nat.le_of_ble_eq_true rfl, Nat.le_of_ble_eq_true rfl⟩ (Nat.le_of_ble_eq_true rfl) (Nat.le_refl _) (Nat.le_refl _) (fun x h hx => ?_)
  obtain ⟨hx, hf⟩ := hx
  have hx : x = zB (1 ≤ n ∧ n ≤ g 0) := hx
  subst hx
  refine zr_if_eq hO (zR_B _) (tgt := 25) dX3_replace_6 rfl (fun c6 => ?_) (fun c6 => ?_)
  · skip
    have c6 := zB_eq c6
    refine zr_iconst hO dX3_replace_25 ?_
    exact hj26 0 ((zB_f (by omega)).symm) h hf
  · skip
    have c6 := zB_ne c6
    refine zr_iload_n hO (hl := rfl) (j := 2) (hi := rfl) dX3_replace_9 ?_
    refine zr_iconst hO dX3_replace_10 ?_
    refine zr_aload_n hO (hl := rfl) (j := 0) (hi := rfl) dX3_replace_11 ?_
    refine zs_get hO hf 8 (x := q) dX3_replace_12 q2978 (Nat.le_of_ble_eq_true rfl) (congrArg (fun z => some (zi z)) hq) (fun ⟨r5a, r5b⟩ => ?_)
    refine zr_cSi hO zw_X3_95 (c_X3_in m 0 q (⟨by omega, by omega⟩) (⟨by omega, by omega⟩) (⟨by omega, by omega⟩)) dX3_replace_15 rfl (rest := [zp r]) rfl ⟨Nat.le_of_ble_eq_true rfl, Nat.le_of_ble_eq_true rfl⟩ (Nat.le_of_ble_eq_true rfl) (Nat.le_refl _) (Nat.le_refl _) (fun x h hx => ?_)
    obtain ⟨hx, rfl⟩ := hx
    have hx : x = zB (0 ≤ m ∧ m ≤ q) := hx
    subst hx
    refine zr_if_eq hO (zR_B _) (tgt := 25) dX3_replace_18 rfl (fun c18 => ?_) (fun c18 => ?_)
    · skip
      have c18 := zB_eq c18
      refine zr_iconst hO dX3_replace_25 ?_
      exact hj26 0 ((zB_f (by omega)).symm) h hf
    · skip
      have c18 := zB_ne c18
      refine zr_iconst hO dX3_replace_21 ?_
      refine zr_goto hO (tgt := 26) dX3_replace_22 rfl ?_
      exact hj26 1 ((zB_t (by omega)).symm) h hf
theorem zw_X3_303 : zYw RX3 RX3 303 yX3_mayRange cX3_mayRange 3 (some Jvm.ClassFile.FieldType.boolean) 2 := ⟨q3472, q3474, qs95, q116, q3475, rfl, ⟨by decide +kernel, by decide +kernel, by decide +kernel⟩⟩
theorem zw_X3_306 : zYw RX3 RX3 306 yX3_takesOut cX3_takesOut 5 none 2 := ⟨q3476, q3478, qs96, q116, q3479, rfl, ⟨by decide +kernel, by decide +kernel, by decide +kernel⟩⟩
theorem c_X3_remove {G : zG} {r : Nat} {ad : Nat → Nat} {h0 : zHp} (hI : zRI r ad) {σ : zS} {h : zHp} (hf : zRf r ad σ h0 h) {g : Nat → Int} (hg : σ.2 1 = g) {b : Nat → Int} (hb : σ.2 7 = b) {A : Nat → Int} (hA : σ.2 3 = A) {o : Nat → Int} (ho : σ.2 27 = o) {m9 : Nat → Int} (hm9 : σ.2 28 = m9) {q : Int} (hq : σ.1 8 = q) {u : Int} (hu : σ.1 6 = u) (f : Int) (t : Int) (hf9 : zR f) (ht9 : zR t) (hj1 : 0 ≤ g 3) (hj2 : g 3 ≤ 10) (hj3 : 0 ≤ g 4) (hj4 : g 4 ≤ 10) (hu1 : 0 ≤ u) (hu2 : u ≤ 8) (hq1 : 0 ≤ q) (hq2 : q ≤ 700) (hw : zwf g) : zC G yX3_remove cX3_remove 3 (some Jvm.ClassFile.FieldType.int) 5 114 0 0 [zp r, zi f, zi t] h (zPi (fun x h' => x = (if ((1 ≤ f ∧ f ≤ g 0) ∧ (1 ≤ t ∧ t ≤ g 0)) ∧ f ≤ t then g 0 - (t - f + 1) else 0) ∧ ∃ τ : zS, τ.1 0 = (if zB ((1 ≤ f ∧ f ≤ g 0) ∧ (1 ≤ t ∧ t ≤ g 0)) = 0 then 1 else 2 - 2 * zB (f ≤ t)) ∧ zCo (if ((1 ≤ f ∧ f ≤ g 0) ∧ (1 ≤ t ∧ t ≤ g 0)) ∧ f ≤ t then zuA (zuS (zuA σ 3 (grem A g u)) 6 (gret u)) 1 (gtak g f t) else σ) τ ∧ zRf r ad τ h0 h') zNo) := by
  refine zC.of zpn_X3 (Nat.le_of_ble_eq_true rfl) (L := [(0, zp r), (1, zi f), (2, zi t)]) rfl (fun K hO => ?_)
  obtain ⟨w1, w2, w3⟩ := id hw
  obtain ⟨hf9a, hf9b⟩ := hf9
  obtain ⟨ht9a, ht9b⟩ := ht9
  refine zr_aload_n hO (hl := rfl) (j := 0) (hi := rfl) dX3_remove_0 ?_
  refine zr_iload_n hO (hl := rfl) (j := 1) (hi := rfl) dX3_remove_1 ?_
  refine zr_iload_n hO (hl := rfl) (j := 2) (hi := rfl) dX3_remove_2 ?_
  refine zr_cVi hO zc_X3 zw_X3_303 (c_X3_mayRange hI hf hg f t (⟨by omega, by omega⟩) (⟨by omega, by omega⟩)) dX3_remove_3 (zrd_of hf.1) rfl (rest := []) rfl ⟨Nat.le_of_ble_eq_true rfl, Nat.le_of_ble_eq_true rfl⟩ (Nat.le_of_ble_eq_true rfl) (Nat.le_refl _) (Nat.le_refl _) (fun x h hx => ?_)
  obtain ⟨hx, hf⟩ := hx
  have hx : x = zB (((1 ≤ f ∧ f ≤ g 0) ∧ (1 ≤ t ∧ t ≤ g 0)) ∧ f ≤ t) := hx
  subst hx
  have hf : zRf r ad (zuS σ 0 (if zB ((1 ≤ f ∧ f ≤ g 0) ∧ (1 ≤ t ∧ t ≤ g 0)) = 0 then 1 else 2 - 2 * zB (f ≤ t))) h0 h := hf
  refine zr_if_ne hO (zR_B _) (tgt := 11) dX3_remove_6 rfl (fun c6 => ?_) (fun c6 => ?_)
  · skip
    have c6 := zB_ne c6
    refine zr_aload_n hO (hl := rfl) (j := 0) (hi := rfl) dX3_remove_11 ?_
    refine zr_cVv hO zc_X3 zw_X3_294 (c_X3_remembers hI hf hg hA hu  (by omega) (by omega)) dX3_remove_12 (zrd_of hf.1) rfl (rest := []) rfl ⟨Nat.le_of_ble_eq_true rfl, Nat.le_of_ble_eq_true rfl⟩ (Nat.le_of_ble_eq_true rfl) (Nat.le_refl _) (Nat.le_refl _) (fun h hx => ?_)
    have hf : zRf r ad (zuS (zuA (zuS σ 0 (if zB ((1 ≤ f ∧ f ≤ g 0) ∧ (1 ≤ t ∧ t ≤ g 0)) = 0 then 1 else 2 - 2 * zB (f ≤ t))) 3 (grem A g u)) 6 (gret u)) h0 h := hx
    clear hx
    refine zr_aload_n hO (hl := rfl) (j := 0) (hi := rfl) dX3_remove_15 ?_
    refine zr_iload_n hO (hl := rfl) (j := 1) (hi := rfl) dX3_remove_16 ?_
    refine zr_iload_n hO (hl := rfl) (j := 2) (hi := rfl) dX3_remove_17 ?_
    refine zr_cVv hO zc_X3 zw_X3_306 (c_X3_takesOut hI hf hg f t (by omega) (by omega) (by omega) (by omega) (by omega) (hj1) (hj2) (hj3) (hj4)) dX3_remove_18 (zrd_of hf.1) rfl (rest := []) rfl ⟨Nat.le_of_ble_eq_true rfl, Nat.le_of_ble_eq_true rfl⟩ (Nat.le_of_ble_eq_true rfl) (Nat.le_refl _) (Nat.le_refl _) (fun h hx => ?_)
    have hf : zRf r ad (zuA (zuS (zuA (zuS σ 0 (if zB ((1 ≤ f ∧ f ≤ g 0) ∧ (1 ≤ t ∧ t ≤ g 0)) = 0 then 1 else 2 - 2 * zB (f ≤ t))) 3 (grem A g u)) 6 (gret u)) 1 (gtak g f t)) h0 h := hx
    clear hx
    refine zr_aload_n hO (hl := rfl) (j := 0) (hi := rfl) dX3_remove_21 ?_
    refine zs_arr hO hf 1 dX3_remove_22 q2971 (Nat.le_of_ble_eq_true rfl) rfl ?_
    refine zr_iconst hO dX3_remove_25 ?_
    refine zs_ild hO hf 1 (f := gtak g f t) (n := 2195) (j := 0) dX3_remove_26 rfl rfl rfl rfl (by omega) (by omega) rfl (fun ⟨r2a, r2b⟩ => ?_)
    exact zr_ireturn hO dX3_remove_27 ⟨(by rw [if_pos c6]; exact zset_s), (zuA (zuS (zuA (zuS σ 0 (if zB ((1 ≤ f ∧ f ≤ g 0) ∧ (1 ≤ t ∧ t ≤ g 0)) = 0 then 1 else 2 - 2 * zB (f ≤ t))) 3 (grem A g u)) 6 (gret u)) 1 (gtak g f t)), (rfl), (by rw [if_pos c6]; exact (((((zCo.refl σ).uS (k := 0) (by decide) (if zB ((1 ≤ f ∧ f ≤ g 0) ∧ (1 ≤ t ∧ t ≤ g 0)) = 0 then 1 else 2 - 2 * zB (f ≤ t))).cA 3 (grem A g u)).cS 6 (gret u)).cA 1 (gtak g f t))), hf⟩
  · skip
    have c6 := zB_eq c6
    refine zr_iconst hO dX3_remove_9 ?_
    exact zr_ireturn hO dX3_remove_10 ⟨(by rw [if_neg c6]), (zuS σ 0 (if zB ((1 ≤ f ∧ f ≤ g 0) ∧ (1 ≤ t ∧ t ≤ g 0)) = 0 then 1 else 2 - 2 * zB (f ≤ t))), (rfl), (by rw [if_neg c6]; exact ((zCo.refl σ).uS (k := 0) (by decide) (if zB ((1 ≤ f ∧ f ≤ g 0) ∧ (1 ≤ t ∧ t ≤ g 0)) = 0 then 1 else 2 - 2 * zB (f ≤ t)))), hf⟩
theorem zw_X3_300 : zYw RX3 RX3 300 yX3_settles cX3_settles 3 none 1 := ⟨q3448, q3450, qs91, q116, q3451, rfl, ⟨by decide +kernel, by decide +kernel, by decide +kernel⟩⟩
theorem c_X3_insert {G : zG} {r : Nat} {ad : Nat → Nat} {h0 : zHp} (hI : zRI r ad) {σ : zS} {h : zHp} (hf : zRf r ad σ h0 h) {g : Nat → Int} (hg : σ.2 1 = g) {b : Nat → Int} (hb : σ.2 7 = b) {A : Nat → Int} (hA : σ.2 3 = A) {o : Nat → Int} (ho : σ.2 27 = o) {m9 : Nat → Int} (hm9 : σ.2 28 = m9) {q : Int} (hq : σ.1 8 = q) {u : Int} (hu : σ.1 6 = u) (n : Int) (m : Int) (hn : zR n) (hm : zR m) (hk1 : 0 ≤ g 1) (hk2 : g 1 ≤ 1000000) (hu1 : 0 ≤ u) (hu2 : u ≤ 8) (hq1 : 0 ≤ q) (hq2 : q ≤ 700) (hw : zwf g) : zC G yX3_insert cX3_insert 5 (some Jvm.ClassFile.FieldType.int) 5 112 0 0 [zp r, zi n, zi m] h (zPi (fun x h' => x = (if (1 ≤ n ∧ n ≤ g 0 + 1) ∧ (0 ≤ m ∧ m ≤ q) then (if g 0 ≠ 80 ∧ gTx b m then g 1 else 0) else 0) ∧ ∃ τ : zS, τ.1 0 = (if (1 ≤ n ∧ n ≤ g 0 + 1) ∧ (0 ≤ m ∧ m ≤ q) then (if g 0 ≠ 80 ∧ gTx b m then 0 else 2) else 1) ∧ zCo (if (1 ≤ n ∧ n ≤ g 0 + 1) ∧ (0 ≤ m ∧ m ≤ q) then (if g 0 ≠ 80 ∧ gTx b m then zuA (zuS (zuA (zuS σ 8 0) 3 (grem A g u)) 6 (gret u)) 1 (gsetG (gins g b m) n o) else zuS σ 8 0) else σ) τ ∧ zRf r ad τ h0 h') zNo) := by
  refine zC.of zpn_X3 (Nat.le_of_ble_eq_true rfl) (L := [(0, zp r), (1, zi n), (2, zi m)]) rfl (fun K hO => ?_)
  obtain ⟨w1, w2, w3⟩ := id hw
  obtain ⟨hna, hnb⟩ := hn
  obtain ⟨hma, hmb⟩ := hm
  have hj34 : ∀ (b : Int) (hb : b = zB ((1 ≤ n ∧ n ≤ g 0 + 1) ∧ (0 ≤ m ∧ m ≤ q))) (h : zHp) (hf : zRf r ad σ h0 h), zV G K 0 0 h 34 [(0, zp r), (1, zi n), (2, zi m)] [zi b, zp r] := by
    intro b hb h hf
    subst hb
    refine zr_cVi hO zc_X3 zw_X3_111 (c_X3_may hI hf (zB ((1 ≤ n ∧ n ≤ g 0 + 1) ∧ (0 ≤ m ∧ m ≤ q))) (zB_01 _)) dX3_insert_34 (zrd_of hf.1) rfl (rest := []) rfl ⟨Nat.le_of_ble_eq_true rfl, Nat.le_of_ble_eq_true rfl⟩ (Nat.le_of_ble_eq_true rfl) (Nat.le_refl _) (Nat.le_refl _) (fun x h hx => ?_)
    obtain ⟨hx, hf⟩ := hx
    have hx : x = (zB ((1 ≤ n ∧ n ≤ g 0 + 1) ∧ (0 ≤ m ∧ m ≤ q))) := hx
    subst hx
    have hf : zRf r ad (zuS σ 0 (1 - (zB ((1 ≤ n ∧ n ≤ g 0 + 1) ∧ (0 ≤ m ∧ m ≤ q))))) h0 h := hf
    refine zr_if_ne hO (zR_B _) (tgt := 42) dX3_insert_37 rfl (fun c37 => ?_) (fun c37 => ?_)
    · skip
      have c37 := zB_ne c37
      refine zr_aload_n hO (hl := rfl) (j := 0) (hi := rfl) dX3_insert_42 ?_
      refine zr_iconst hO dX3_insert_43 ?_
      refine zs_put hO hI hf 8 dX3_insert_44 q2978 (Nat.le_of_ble_eq_true rfl) rfl rfl rfl ⟨by omega, by omega⟩ (fun h hf => ?_)
      refine zr_aload_n hO (hl := rfl) (j := 0) (hi := rfl) dX3_insert_47 ?_
      refine zs_arr hO hf 1 dX3_insert_48 q2971 (Nat.le_of_ble_eq_true rfl) rfl ?_
      refine zr_iconst hO dX3_insert_51 ?_
      refine zs_ild hO hf 1 (f := g) (n := 2195) (j := 0) dX3_insert_52 rfl rfl rfl hg (by omega) (by omega) rfl (fun ⟨r2a, r2b⟩ => ?_)
      refine zr_bipush hO (by decide) dX3_insert_53 ?_
      refine zr_icmp_eq hO ⟨by omega, by omega⟩ ⟨by omega, by omega⟩ (tgt := 66) dX3_insert_55 rfl (fun c55 => ?_) (fun c55 => ?_)
      · skip
        refine zr_aload_n hO (hl := rfl) (j := 0) (hi := rfl) dX3_insert_66 ?_
        refine zr_iconst hO dX3_insert_67 ?_
        refine zs_put hO hI hf 0 dX3_insert_68 q2970 (Nat.le_of_ble_eq_true rfl) rfl rfl rfl ⟨by omega, by omega⟩ (fun h hf => ?_)
        refine zr_iconst hO dX3_insert_71 ?_
        exact zr_ireturn hO dX3_insert_72 ⟨(by rw [if_pos c37, if_neg (fun z => by first | exact z.1 c55 | exact c63 z.2)]), (zuS (zuS (zuS σ 0 (1 - (zB ((1 ≤ n ∧ n ≤ g 0 + 1) ∧ (0 ≤ m ∧ m ≤ q))))) 8 0) 0 2), (by rw [if_pos c37, if_neg (fun z => by first | exact z.1 c55 | exact c63 z.2)]; exact rfl), (by rw [if_pos c37, if_neg (fun z => by first | exact z.1 c55 | exact c63 z.2)]; exact ((((zCo.refl σ).uS (k := 0) (by decide) (1 - (zB ((1 ≤ n ∧ n ≤ g 0 + 1) ∧ (0 ≤ m ∧ m ≤ q))))).cS 8 0).uS (k := 0) (by decide) 2)), hf⟩
      · skip
        refine zr_aload_n hO (hl := rfl) (j := 0) (hi := rfl) dX3_insert_58 ?_
        refine zr_iload_n hO (hl := rfl) (j := 2) (hi := rfl) dX3_insert_59 ?_
        refine zr_cVi hO zc_X3 zw_X3_291 (c_X3_isText hI hf hb m (by omega) (by omega)) dX3_insert_60 (zrd_of hf.1) rfl (rest := []) rfl ⟨Nat.le_of_ble_eq_true rfl, Nat.le_of_ble_eq_true rfl⟩ (Nat.le_of_ble_eq_true rfl) (Nat.le_refl _) (Nat.le_refl _) (fun x h hx => ?_)
        obtain ⟨hx, hf⟩ := hx
        have hx : x = zB (gTx b m) := hx
        subst hx
        refine zr_if_ne hO (zR_B _) (tgt := 73) dX3_insert_63 rfl (fun c63 => ?_) (fun c63 => ?_)
        · skip
          have c63 := zB_ne c63
          refine zr_aload_n hO (hl := rfl) (j := 0) (hi := rfl) dX3_insert_73 ?_
          refine zr_cVv hO zc_X3 zw_X3_294 (c_X3_remembers hI hf hg hA hu  (by omega) (by omega)) dX3_insert_74 (zrd_of hf.1) rfl (rest := []) rfl ⟨Nat.le_of_ble_eq_true rfl, Nat.le_of_ble_eq_true rfl⟩ (Nat.le_of_ble_eq_true rfl) (Nat.le_refl _) (Nat.le_refl _) (fun h hx => ?_)
          have hf : zRf r ad (zuS (zuA (zuS (zuS σ 0 (1 - (zB ((1 ≤ n ∧ n ≤ g 0 + 1) ∧ (0 ≤ m ∧ m ≤ q))))) 8 0) 3 (grem A g u)) 6 (gret u)) h0 h := hx
          clear hx
          refine zr_aload_n hO (hl := rfl) (j := 0) (hi := rfl) dX3_insert_77 ?_
          refine zr_cVi hO zc_X3 zw_X3_99 (c_X3_comes hI hf hg  (by omega) (by omega) (by omega) (by omega)) dX3_insert_78 (zrd_of hf.1) rfl (rest := []) rfl ⟨Nat.le_of_ble_eq_true rfl, Nat.le_of_ble_eq_true rfl⟩ (Nat.le_of_ble_eq_true rfl) (Nat.le_refl _) (Nat.le_refl _) (fun x h hx => ?_)
          obtain ⟨hx, hf⟩ := hx
          have hx : x = 35 + 27 * g 0 := hx
          subst hx
          have hf : zRf r ad (zuA (zuS (zuA (zuS (zuS σ 0 (1 - (zB ((1 ≤ n ∧ n ≤ g 0 + 1) ∧ (0 ≤ m ∧ m ≤ q))))) 8 0) 3 (grem A g u)) 6 (gret u)) 1 (gcm g)) h0 h := hf
          refine zr_istore_n hO (L' := [(3, zi (35 + 27 * g 0)), (0, zp r), (1, zi n), (2, zi m)]) (hi := rfl) dX3_insert_81 (Nat.le_of_ble_eq_true rfl) rfl ?_
          refine zr_aload_n hO (hl := rfl) (j := 1) (hi := rfl) dX3_insert_82 ?_
          refine zr_aload_n hO (hl := rfl) (j := 1) (hi := rfl) dX3_insert_83 ?_
          refine zs_arr hO hf 1 dX3_insert_84 q2971 (Nat.le_of_ble_eq_true rfl) rfl ?_
          refine zr_iconst hO dX3_insert_87 ?_
          refine zs_ild hO hf 1 (f := gcm g) (n := 2195) (j := 0) dX3_insert_88 rfl rfl rfl rfl (by omega) (by omega) rfl (fun ⟨r5a, r5b⟩ => ?_)
          rw [show ((gcm g) 0) = g 0 + 1 from gcm_0 g]
          refine zr_iload_n hO (hl := rfl) (j := 3) (hi := rfl) dX3_insert_89 ?_
          refine zr_cVv hO zc_X3 zw_X3_297 (c_X3_laysText hI hf (zuA_at (zuS (zuA (zuS (zuS σ 0 (1 - (zB ((1 ≤ n ∧ n ≤ g 0 + 1) ∧ (0 ≤ m ∧ m ≤ q))))) 8 0) 3 (grem A g u)) 6 (gret u)) 1 (gcm g)) hb (g 0 + 1) m (by omega) (by omega) (by omega) (by omega)) dX3_insert_90 (zrd_of hf.1) rfl (rest := []) rfl ⟨Nat.le_of_ble_eq_true rfl, Nat.le_of_ble_eq_true rfl⟩ (Nat.le_of_ble_eq_true rfl) (Nat.le_refl _) (Nat.le_refl _) (fun h hx => ?_)
          have hf : zRf r ad (zuA (zuA (zuS (zuA (zuS (zuS σ 0 (1 - (zB ((1 ≤ n ∧ n ≤ g 0 + 1) ∧ (0 ≤ m ∧ m ≤ q))))) 8 0) 3 (grem A g u)) 6 (gret u)) 1 (gcm g)) 1 (gtxt (gcm g) (g 0 + 1) b m)) h0 h := hx
          clear hx
          refine zr_aload_n hO (hl := rfl) (j := 1) (hi := rfl) dX3_insert_93 ?_
          refine zs_arr hO hf 1 dX3_insert_94 q2971 (Nat.le_of_ble_eq_true rfl) rfl ?_
          refine zr_iload_n hO (hl := rfl) (j := 0) (hi := rfl) dX3_insert_97 ?_
          refine zr_iconst hO dX3_insert_98 ?_
          refine zr_iadd hO dX3_insert_99 ?_
          refine zs_ild hO hf 1 (f := gtxt (gcm g) (g 0 + 1) b m) (n := 2195) (j := ((35 + 27 * g 0) + 0).toNat) dX3_insert_100 rfl rfl rfl rfl (by omega) (by omega) rfl (fun ⟨r6a, r6b⟩ => ?_)
          rw [show ((gtxt (gcm g) (g 0 + 1) b m) (((35 + 27 * g 0) + 0).toNat)) = g 1 from gins_k g b m (by omega) (by omega)]
          refine zr_istore hO (L' := [(4, zi (g 1)), (3, zi (35 + 27 * g 0)), (0, zp r), (1, zi n), (2, zi m)]) dX3_insert_101 (Nat.le_of_ble_eq_true rfl) rfl ?_
          have hi0 : gtxt (gcm g) (g 0 + 1) b m 0 = g 0 + 1 := gins_0 g b m (by omega)
          refine zr_aload_n hO (hl := rfl) (j := 2) (hi := rfl) dX3_insert_103 ?_
          refine zr_iload_n hO (hl := rfl) (j := 3) (hi := rfl) dX3_insert_104 ?_
          refine zr_cVv hO zc_X3 zw_X3_300 (c_X3_settles hI hf (zuA_at (zuA (zuS (zuA (zuS (zuS σ 0 (1 - (zB ((1 ≤ n ∧ n ≤ g 0 + 1) ∧ (0 ≤ m ∧ m ≤ q))))) 8 0) 3 (grem A g u)) 6 (gret u)) 1 (gcm g)) 1 (gtxt (gcm g) (g 0 + 1) b m)) ho hm9 n (by omega) (by omega) (by omega) (by omega)) dX3_insert_105 (zrd_of hf.1) rfl (rest := []) rfl ⟨Nat.le_of_ble_eq_true rfl, Nat.le_of_ble_eq_true rfl⟩ (Nat.le_of_ble_eq_true rfl) (Nat.le_refl _) (Nat.le_refl _) (fun h hx => ?_)
          obtain ⟨τ1, hs1, ht1, hf⟩ := hx
          refine zr_iload hO (hl := rfl) (j := 0) dX3_insert_108 ?_
          exact zr_ireturn hO dX3_insert_110 ⟨(by rw [if_pos c37, if_pos ⟨by omega, c63⟩]), τ1, (by rw [if_pos c37, if_pos ⟨by omega, c63⟩]; exact ((ht1.trans ((zuA_1 (zuA (zuA (zuS (zuA (zuS (zuS σ 0 (1 - (zB ((1 ≤ n ∧ n ≤ g 0 + 1) ∧ (0 ≤ m ∧ m ≤ q))))) 8 0) 3 (grem A g u)) 6 (gret u)) 1 (gcm g)) 1 (gtxt (gcm g) (g 0 + 1) b m)) 1 (gsetG (gtxt (gcm g) (g 0 + 1) b m) n o) 0).trans ((zuA_1 (zuA (zuS (zuA (zuS (zuS σ 0 (1 - (zB ((1 ≤ n ∧ n ≤ g 0 + 1) ∧ (0 ≤ m ∧ m ≤ q))))) 8 0) 3 (grem A g u)) 6 (gret u)) 1 (gcm g)) 1 (gtxt (gcm g) (g 0 + 1) b m) 0).trans ((zuA_1 (zuS (zuA (zuS (zuS σ 0 (1 - (zB ((1 ≤ n ∧ n ≤ g 0 + 1) ∧ (0 ≤ m ∧ m ≤ q))))) 8 0) 3 (grem A g u)) 6 (gret u)) 1 (gcm g) 0).trans ((zuS_ne (zuA (zuS (zuS σ 0 (1 - (zB ((1 ≤ n ∧ n ≤ g 0 + 1) ∧ (0 ≤ m ∧ m ≤ q))))) 8 0) 3 (grem A g u)) 6 (gret u) (j := 0) (by decide)).trans ((zuA_1 (zuS (zuS σ 0 (1 - (zB ((1 ≤ n ∧ n ≤ g 0 + 1) ∧ (0 ≤ m ∧ m ≤ q))))) 8 0) 3 (grem A g u) 0).trans ((zuS_ne (zuS σ 0 (1 - (zB ((1 ≤ n ∧ n ≤ g 0 + 1) ∧ (0 ≤ m ∧ m ≤ q))))) 8 0 (j := 0) (by decide)).trans (zuS_at σ 0 (1 - (zB ((1 ≤ n ∧ n ≤ g 0 + 1) ∧ (0 ≤ m ∧ m ≤ q))))))))))))).trans (by rw [zB_t c37]; rfl)), (by rw [if_pos c37, if_pos ⟨by omega, c63⟩]; exact zCo.eq (((((((((zCo.refl σ).uS (k := 0) (by decide) (1 - (zB ((1 ≤ n ∧ n ≤ g 0 + 1) ∧ (0 ≤ m ∧ m ≤ q))))).cS 8 0).cA 3 (grem A g u)).cS 6 (gret u)).cA 1 (gcm g)).cA 1 (gtxt (gcm g) (g 0 + 1) b m)).cA 1 (gsetG (gtxt (gcm g) (g 0 + 1) b m) n o)).trans hs1) (fun k => by simp only [zuS, zuA, zset] <;> (repeat' split) <;> first | rfl | omega) (fun k hk => by simp only [zuS, zuA, zset] <;> (repeat' split) <;> first | rfl | omega)), hf⟩
        · skip
          have c63 := zB_eq c63
          refine zr_aload_n hO (hl := rfl) (j := 0) (hi := rfl) dX3_insert_66 ?_
          refine zr_iconst hO dX3_insert_67 ?_
          refine zs_put hO hI hf 0 dX3_insert_68 q2970 (Nat.le_of_ble_eq_true rfl) rfl rfl rfl ⟨by omega, by omega⟩ (fun h hf => ?_)
          refine zr_iconst hO dX3_insert_71 ?_
          exact zr_ireturn hO dX3_insert_72 ⟨(by rw [if_pos c37, if_neg (fun z => by first | exact z.1 c55 | exact c63 z.2)]), (zuS (zuS (zuS σ 0 (1 - (zB ((1 ≤ n ∧ n ≤ g 0 + 1) ∧ (0 ≤ m ∧ m ≤ q))))) 8 0) 0 2), (by rw [if_pos c37, if_neg (fun z => by first | exact z.1 c55 | exact c63 z.2)]; exact rfl), (by rw [if_pos c37, if_neg (fun z => by first | exact z.1 c55 | exact c63 z.2)]; exact ((((zCo.refl σ).uS (k := 0) (by decide) (1 - (zB ((1 ≤ n ∧ n ≤ g 0 + 1) ∧ (0 ≤ m ∧ m ≤ q))))).cS 8 0).uS (k := 0) (by decide) 2)), hf⟩
    · skip
      have c37 := zB_eq c37
      refine zr_iconst hO dX3_insert_40 ?_
      exact zr_ireturn hO dX3_insert_41 ⟨(by rw [if_neg c37]), (zuS σ 0 (1 - (zB ((1 ≤ n ∧ n ≤ g 0 + 1) ∧ (0 ≤ m ∧ m ≤ q))))), (by rw [if_neg c37]; show 1 - zB ((1 ≤ n ∧ n ≤ g 0 + 1) ∧ (0 ≤ m ∧ m ≤ q)) = 1; rw [zB_f c37]; rfl), (by rw [if_neg c37]; exact ((zCo.refl σ).uS (k := 0) (by decide) (1 - (zB ((1 ≤ n ∧ n ≤ g 0 + 1) ∧ (0 ≤ m ∧ m ≤ q)))))), hf⟩
  refine zr_aload_n hO (hl := rfl) (j := 0) (hi := rfl) dX3_insert_0 ?_
  refine zr_iload_n hO (hl := rfl) (j := 1) (hi := rfl) dX3_insert_1 ?_
  refine zr_iconst hO dX3_insert_2 ?_
  refine zr_aload_n hO (hl := rfl) (j := 0) (hi := rfl) dX3_insert_3 ?_
  refine zs_arr hO hf 1 dX3_insert_4 q2971 (Nat.le_of_ble_eq_true rfl) rfl ?_
  refine zr_iconst hO dX3_insert_7 ?_
  refine zs_ild hO hf 1 (f := g) (n := 2195) (j := 0) dX3_insert_8 rfl rfl rfl hg (by omega) (by omega) rfl (fun ⟨r7a, r7b⟩ => ?_)
  refine zr_iconst hO dX3_insert_9 ?_
  refine zr_iadd hO dX3_insert_10 ?_
  refine zr_cSi hO zw_X3_95 (c_X3_in n 1 ((g 0) + 1) (⟨by omega, by omega⟩) (⟨by omega, by omega⟩) (⟨by omega, by omega⟩)) dX3_insert_11 rfl (rest := [zp r]) rfl ⟨Nat.le_of_ble_eq_true rfl, Nat.le_of_ble_eq_true rfl⟩ (Nat.le_of_ble_eq_true rfl) (Nat.le_refl _) (Nat.le_refl _) (fun x h hx => ?_)
  obtain ⟨hx, rfl⟩ := hx
  have hx : x = zB (1 ≤ n ∧ n ≤ ((g 0) + 1)) := hx
  subst hx
  refine zr_if_eq hO (zR_B _) (tgt := 33) dX3_insert_14 rfl (fun c14 => ?_) (fun c14 => ?_)
  · skip
    have c14 := zB_eq c14
    refine zr_iconst hO dX3_insert_33 ?_
    exact hj34 0 ((zB_f (by omega)).symm) h hf
  · skip
    have c14 := zB_ne c14
    refine zr_iload_n hO (hl := rfl) (j := 2) (hi := rfl) dX3_insert_17 ?_
    refine zr_iconst hO dX3_insert_18 ?_
    refine zr_aload_n hO (hl := rfl) (j := 0) (hi := rfl) dX3_insert_19 ?_
    refine zs_get hO hf 8 (x := q) dX3_insert_20 q2978 (Nat.le_of_ble_eq_true rfl) (congrArg (fun z => some (zi z)) hq) (fun ⟨r8a, r8b⟩ => ?_)
    refine zr_cSi hO zw_X3_95 (c_X3_in m 0 q (⟨by omega, by omega⟩) (⟨by omega, by omega⟩) (⟨by omega, by omega⟩)) dX3_insert_23 rfl (rest := [zp r]) rfl ⟨Nat.le_of_ble_eq_true rfl, Nat.le_of_ble_eq_true rfl⟩ (Nat.le_of_ble_eq_true rfl) (Nat.le_refl _) (Nat.le_refl _) (fun x h hx => ?_)
    obtain ⟨hx, rfl⟩ := hx
    have hx : x = zB (0 ≤ m ∧ m ≤ q) := hx
    subst hx
    refine zr_if_eq hO (zR_B _) (tgt := 33) dX3_insert_26 rfl (fun c26 => ?_) (fun c26 => ?_)
    · skip
      have c26 := zB_eq c26
      refine zr_iconst hO dX3_insert_33 ?_
      exact hj34 0 ((zB_f (by omega)).symm) h hf
    · skip
      have c26 := zB_ne c26
      refine zr_iconst hO dX3_insert_29 ?_
      refine zr_goto hO (tgt := 34) dX3_insert_30 rfl ?_
      exact hj34 1 ((zB_t (by omega)).symm) h hf
theorem c_X3_join {G : zG} {r : Nat} {ad : Nat → Nat} {h0 : zHp} (hI : zRI r ad) {σ : zS} {h : zHp} (hf : zRf r ad σ h0 h) {g : Nat → Int} (hg : σ.2 1 = g) {b : Nat → Int} (hb : σ.2 7 = b) {A : Nat → Int} (hA : σ.2 3 = A) {o : Nat → Int} (ho : σ.2 27 = o) {m9 : Nat → Int} (hm9 : σ.2 28 = m9) {q : Int} (hq : σ.1 8 = q) {u : Int} (hu : σ.1 6 = u) (n : Int) (hn : zR n) (hn3 : n ≤ 2000000000) (hj1 : 0 ≤ g 3) (hj2 : g 3 ≤ 10) (hj3 : 0 ≤ g 4) (hj4 : g 4 ≤ 10) (hu1 : 0 ≤ u) (hu2 : u ≤ 8) (hq1 : 0 ≤ q) (hq2 : q ≤ 700) (hw : zwf g) : zC G yX3_join cX3_join 6 (some Jvm.ClassFile.FieldType.int) 5 114 0 0 [zp r, zi n] h (zPi (fun x h' => x = (if ((1 ≤ n ∧ n ≤ g 0) ∧ (1 ≤ n + 1 ∧ n + 1 ≤ g 0)) ∧ (((1 ≤ n ∧ n ≤ g 0) ∧ (1 ≤ n + 1 ∧ n + 1 ≤ g 0)) ∧ gln g n + gln g (n + 1) ≤ 24) then gln (gtak (gjn g n) (n + 1) (n + 1)) n else 0) ∧ ∃ τ : zS, τ.1 0 = (if zB ((1 ≤ n ∧ n ≤ g 0) ∧ (1 ≤ n + 1 ∧ n + 1 ≤ g 0)) = 0 then 1 else 2 - 2 * zB (((1 ≤ n ∧ n ≤ g 0) ∧ (1 ≤ n + 1 ∧ n + 1 ≤ g 0)) ∧ gln g n + gln g (n + 1) ≤ 24)) ∧ zCo (if ((1 ≤ n ∧ n ≤ g 0) ∧ (1 ≤ n + 1 ∧ n + 1 ≤ g 0)) ∧ (((1 ≤ n ∧ n ≤ g 0) ∧ (1 ≤ n + 1 ∧ n + 1 ≤ g 0)) ∧ gln g n + gln g (n + 1) ≤ 24) then zuA (zuS (zuA σ 3 (grem A g u)) 6 (gret u)) 1 (gtak (gjn g n) (n + 1) (n + 1)) else σ) τ ∧ zRf r ad τ h0 h') zNo) := by
  refine zC.of zpn_X3 (Nat.le_of_ble_eq_true rfl) (L := [(0, zp r), (1, zi n)]) rfl (fun K hO => ?_)
  obtain ⟨w1, w2, w3⟩ := id hw
  obtain ⟨hna, hnb⟩ := hn
  have hj23 : ∀ (b : Int) (hb : b = zB ((1 ≤ n ∧ n ≤ g 0) ∧ (1 ≤ n + 1 ∧ n + 1 ≤ g 0))) (h : zHp) (hf : zRf r ad σ h0 h), zV G K 0 0 h 23 [(0, zp r), (1, zi n)] [zi b] := by
    intro b hb h hf
    subst hb
    refine zr_istore_n hO (L' := [(2, zi (zB ((1 ≤ n ∧ n ≤ g 0) ∧ (1 ≤ n + 1 ∧ n + 1 ≤ g 0)))), (0, zp r), (1, zi n)]) (hi := rfl) dX3_join_23 (Nat.le_of_ble_eq_true rfl) rfl ?_
    have hj53 : ∀ (b : Int) (hb : b = zB (((1 ≤ n ∧ n ≤ g 0) ∧ (1 ≤ n + 1 ∧ n + 1 ≤ g 0)) ∧ gln g n + gln g (n + 1) ≤ 24)) (h : zHp) (hf : zRf r ad σ h0 h), zV G K 0 0 h 53 [(2, zi (zB ((1 ≤ n ∧ n ≤ g 0) ∧ (1 ≤ n + 1 ∧ n + 1 ≤ g 0)))), (0, zp r), (1, zi n)] [zi b, zi (zB ((1 ≤ n ∧ n ≤ g 0) ∧ (1 ≤ n + 1 ∧ n + 1 ≤ g 0))), zp r] := by
      intro b hb h hf
      subst hb
      refine zr_cVi hO zc_X3 zw_X3_170 (c_X3_mayBoth hI hf (zB ((1 ≤ n ∧ n ≤ g 0) ∧ (1 ≤ n + 1 ∧ n + 1 ≤ g 0))) (zB (((1 ≤ n ∧ n ≤ g 0) ∧ (1 ≤ n + 1 ∧ n + 1 ≤ g 0)) ∧ gln g n + gln g (n + 1) ≤ 24)) (zB_01 _) (zB_01 _)) dX3_join_53 (zrd_of hf.1) rfl (rest := []) rfl ⟨Nat.le_of_ble_eq_true rfl, Nat.le_of_ble_eq_true rfl⟩ (Nat.le_of_ble_eq_true rfl) (Nat.le_refl _) (Nat.le_refl _) (fun x h hx => ?_)
      obtain ⟨hx, hf⟩ := hx
      have hx : x = zB ((zB ((1 ≤ n ∧ n ≤ g 0) ∧ (1 ≤ n + 1 ∧ n + 1 ≤ g 0))) = 1 ∧ (zB (((1 ≤ n ∧ n ≤ g 0) ∧ (1 ≤ n + 1 ∧ n + 1 ≤ g 0)) ∧ gln g n + gln g (n + 1) ≤ 24)) = 1) := hx
      subst hx
      have hf : zRf r ad (zuS σ 0 (if (zB ((1 ≤ n ∧ n ≤ g 0) ∧ (1 ≤ n + 1 ∧ n + 1 ≤ g 0))) = 0 then 1 else 2 - 2 * (zB (((1 ≤ n ∧ n ≤ g 0) ∧ (1 ≤ n + 1 ∧ n + 1 ≤ g 0)) ∧ gln g n + gln g (n + 1) ≤ 24)))) h0 h := hf
      rw [show (zB ((zB ((1 ≤ n ∧ n ≤ g 0) ∧ (1 ≤ n + 1 ∧ n + 1 ≤ g 0))) = 1 ∧ (zB (((1 ≤ n ∧ n ≤ g 0) ∧ (1 ≤ n + 1 ∧ n + 1 ≤ g 0)) ∧ gln g n + gln g (n + 1) ≤ 24)) = 1)) = zB (((1 ≤ n ∧ n ≤ g 0) ∧ (1 ≤ n + 1 ∧ n + 1 ≤ g 0)) ∧ (((1 ≤ n ∧ n ≤ g 0) ∧ (1 ≤ n + 1 ∧ n + 1 ≤ g 0)) ∧ gln g n + gln g (n + 1) ≤ 24)) from zB_and _ _]
      refine zr_if_ne hO (zR_B _) (tgt := 61) dX3_join_56 rfl (fun c56 => ?_) (fun c56 => ?_)
      · skip
        have c56 := zB_ne c56
        have w3n := w3 n (by omega) (by omega)
        have w3m := w3 (n + 1) (by omega) (by omega)
        refine zr_aload_n hO (hl := rfl) (j := 1) (hi := rfl) dX3_join_61 ?_
        refine zr_cVv hO zc_X3 zw_X3_294 (c_X3_remembers hI hf hg hA hu  (by omega) (by omega)) dX3_join_62 (zrd_of hf.1) rfl (rest := []) rfl ⟨Nat.le_of_ble_eq_true rfl, Nat.le_of_ble_eq_true rfl⟩ (Nat.le_of_ble_eq_true rfl) (Nat.le_refl _) (Nat.le_refl _) (fun h hx => ?_)
        have hf : zRf r ad (zuS (zuA (zuS σ 0 (if (zB ((1 ≤ n ∧ n ≤ g 0) ∧ (1 ≤ n + 1 ∧ n + 1 ≤ g 0))) = 0 then 1 else 2 - 2 * (zB (((1 ≤ n ∧ n ≤ g 0) ∧ (1 ≤ n + 1 ∧ n + 1 ≤ g 0)) ∧ gln g n + gln g (n + 1) ≤ 24)))) 3 (grem A g u)) 6 (gret u)) h0 h := hx
        clear hx
        refine zr_aload_n hO (hl := rfl) (j := 1) (hi := rfl) dX3_join_65 ?_
        refine zr_iload_n hO (hl := rfl) (j := 2) (hi := rfl) dX3_join_66 ?_
        refine zr_cVi hO zc_X3 zw_X3_139 (c_X3_length hI hf hg n (by omega) (by omega)) dX3_join_67 (zrd_of hf.1) rfl (rest := []) rfl ⟨Nat.le_of_ble_eq_true rfl, Nat.le_of_ble_eq_true rfl⟩ (Nat.le_of_ble_eq_true rfl) (Nat.le_refl _) (Nat.le_refl _) (fun x h hx => ?_)
        obtain ⟨hx, ⟨r2a, r2b⟩, hf⟩ := hx
        have hx : x = gln g n := hx
        subst hx
        refine zr_istore_n hO (L' := [(3, zi (gln g n)), (2, zi (zB ((1 ≤ n ∧ n ≤ g 0) ∧ (1 ≤ n + 1 ∧ n + 1 ≤ g 0)))), (0, zp r), (1, zi n)]) (hi := rfl) dX3_join_70 (Nat.le_of_ble_eq_true rfl) rfl ?_
        refine zr_aload_n hO (hl := rfl) (j := 2) (hi := rfl) dX3_join_71 ?_
        refine zr_iload_n hO (hl := rfl) (j := 3) (hi := rfl) dX3_join_72 ?_
        refine zr_iconst hO dX3_join_73 ?_
        refine zr_iadd hO dX3_join_74 ?_
        refine zr_cVi hO zc_X3 zw_X3_139 (c_X3_length hI hf hg (n + 1) (by omega) (by omega)) dX3_join_75 (zrd_of hf.1) rfl (rest := []) rfl ⟨Nat.le_of_ble_eq_true rfl, Nat.le_of_ble_eq_true rfl⟩ (Nat.le_of_ble_eq_true rfl) (Nat.le_refl _) (Nat.le_refl _) (fun x h hx => ?_)
        obtain ⟨hx, ⟨r3a, r3b⟩, hf⟩ := hx
        have hx : x = gln g (n + 1) := hx
        subst hx
        refine zr_istore hO (L' := [(4, zi (gln g (n + 1))), (3, zi (gln g n)), (2, zi (zB ((1 ≤ n ∧ n ≤ g 0) ∧ (1 ≤ n + 1 ∧ n + 1 ≤ g 0)))), (0, zp r), (1, zi n)]) dX3_join_78 (Nat.le_of_ble_eq_true rfl) rfl ?_
        refine zr_iconst hO dX3_join_80 ?_
        refine zr_istore hO (L' := [(5, zi 0), (4, zi (gln g (n + 1))), (3, zi (gln g n)), (2, zi (zB ((1 ≤ n ∧ n ≤ g 0) ∧ (1 ≤ n + 1 ∧ n + 1 ≤ g 0)))), (0, zp r), (1, zi n)]) dX3_join_81 (Nat.le_of_ble_eq_true rfl) rfl ?_
        have hl83 : ∀ (n9 : Nat) (i : Int), (gln g (n + 1) - i).toNat = n9 → ∀ (i1 : 0 ≤ i) (i2 : i ≤ gln g (n + 1)) (h : zHp) (hf : zRf r ad (zuA (zuS (zuA (zuS σ 0 (if (zB ((1 ≤ n ∧ n ≤ g 0) ∧ (1 ≤ n + 1 ∧ n + 1 ≤ g 0))) = 0 then 1 else 2 - 2 * (zB (((1 ≤ n ∧ n ≤ g 0) ∧ (1 ≤ n + 1 ∧ n + 1 ≤ g 0)) ∧ gln g n + gln g (n + 1) ≤ 24)))) 3 (grem A g u)) 6 (gret u)) 1 (gcp g (35 + 27 * n + 3) g (35 + 27 * (n - 1) + 3 + gln g n) i)) h0 h), zV G K 0 0 h 83 [(0, zp r), (1, zi n), (3, zi (gln g n)), (4, zi (gln g (n + 1))), (5, zi i)] [] := by
          intro n9
          induction n9 using Nat.strongRecOn with
          | _ n9 ih83 =>
          intro i hn83 i1 i2 h hf
          refine zr_iload hO (hl := rfl) (j := 4) dX3_join_83 ?_
          refine zr_iload hO (hl := rfl) (j := 3) dX3_join_85 ?_
          refine zr_icmp_ge hO ⟨by omega, by omega⟩ ⟨by omega, by omega⟩ (tgt := 121) dX3_join_87 rfl (fun c87 => ?_) (fun c87 => ?_)
          · skip
            refine zr_aload_n hO (hl := rfl) (j := 0) (hi := rfl) dX3_join_121 ?_
            refine zs_arr hO hf 1 dX3_join_122 q2971 (Nat.le_of_ble_eq_true rfl) rfl ?_
            refine zr_iload_n hO (hl := rfl) (j := 1) (hi := rfl) dX3_join_125 ?_
            refine zr_cSi hO zw_X3_125 (c_X3_lineAt n) dX3_join_126 rfl (rest := [zp (ad 1)]) rfl ⟨Nat.le_of_ble_eq_true rfl, Nat.le_of_ble_eq_true rfl⟩ (Nat.le_of_ble_eq_true rfl) (Nat.le_refl _) (Nat.le_refl _) (fun x h hx => ?_)
            obtain ⟨hx, rfl⟩ := hx
            have hx : x = 35 + 27 * (n - 1) := hx
            subst hx
            refine zr_iconst hO dX3_join_129 ?_
            refine zr_iadd hO dX3_join_130 ?_
            refine zr_iload_n hO (hl := rfl) (j := 2) (hi := rfl) dX3_join_131 ?_
            refine zr_iload hO (hl := rfl) (j := 3) dX3_join_132 ?_
            refine zr_iadd hO dX3_join_134 ?_
            refine zs_ist hO hI hf 1 (f := gcp g (35 + 27 * n + 3) g (35 + 27 * (n - 1) + 3 + gln g n) i) (n := 2195) (j := ((35 + 27 * (n - 1)) + 2).toNat) dX3_join_135 rfl rfl rfl rfl (by omega) (by omega) rfl ⟨by omega, by omega⟩ (fun h hf => ?_)
            have hf : zRf r ad (zuA (zuS (zuA (zuS σ 0 (if (zB ((1 ≤ n ∧ n ≤ g 0) ∧ (1 ≤ n + 1 ∧ n + 1 ≤ g 0))) = 0 then 1 else 2 - 2 * (zB (((1 ≤ n ∧ n ≤ g 0) ∧ (1 ≤ n + 1 ∧ n + 1 ≤ g 0)) ∧ gln g n + gln g (n + 1) ≤ 24)))) 3 (grem A g u)) 6 (gret u)) 1 (gjn g n)) h0 h := zRf_eq (by rw [zuA_uA, show i = gln g (n + 1) by omega]; rfl) hf
            have hjs : ∀ j : Nat, j < 35 → gjn g n j = g j := fun j hj => by unfold gjn gcp; rw [zset_n (by omega)]; exact if_neg (by omega)
            have hj0 := hjs 0 (by omega)
            refine zr_aload_n hO (hl := rfl) (j := 0) (hi := rfl) dX3_join_136 ?_
            refine zr_iload_n hO (hl := rfl) (j := 1) (hi := rfl) dX3_join_137 ?_
            refine zr_iconst hO dX3_join_138 ?_
            refine zr_iadd hO dX3_join_139 ?_
            refine zr_iload_n hO (hl := rfl) (j := 1) (hi := rfl) dX3_join_140 ?_
            refine zr_iconst hO dX3_join_141 ?_
            refine zr_iadd hO dX3_join_142 ?_
            refine zr_cVv hO zc_X3 zw_X3_306 (c_X3_takesOut hI hf (zuA_at (zuS (zuA (zuS σ 0 (if (zB ((1 ≤ n ∧ n ≤ g 0) ∧ (1 ≤ n + 1 ∧ n + 1 ≤ g 0))) = 0 then 1 else 2 - 2 * (zB (((1 ≤ n ∧ n ≤ g 0) ∧ (1 ≤ n + 1 ∧ n + 1 ≤ g 0)) ∧ gln g n + gln g (n + 1) ≤ 24)))) 3 (grem A g u)) 6 (gret u)) 1 (gjn g n)) (n + 1) (n + 1) (by rw [hj0]; exact w1) (by rw [hj0]; exact w2) (by omega) (by omega) (by omega) (by rw [hjs 3 (by omega)]; exact hj1) (by rw [hjs 3 (by omega)]; exact hj2) (by rw [hjs 4 (by omega)]; exact hj3) (by rw [hjs 4 (by omega)]; exact hj4)) dX3_join_143 (zrd_of hf.1) rfl (rest := []) rfl ⟨Nat.le_of_ble_eq_true rfl, Nat.le_of_ble_eq_true rfl⟩ (Nat.le_of_ble_eq_true rfl) (Nat.le_refl _) (Nat.le_refl _) (fun h hx => ?_)
            have hf : zRf r ad (zuA (zuA (zuS (zuA (zuS σ 0 (if (zB ((1 ≤ n ∧ n ≤ g 0) ∧ (1 ≤ n + 1 ∧ n + 1 ≤ g 0))) = 0 then 1 else 2 - 2 * (zB (((1 ≤ n ∧ n ≤ g 0) ∧ (1 ≤ n + 1 ∧ n + 1 ≤ g 0)) ∧ gln g n + gln g (n + 1) ≤ 24)))) 3 (grem A g u)) 6 (gret u)) 1 (gjn g n)) 1 (gtak (gjn g n) (n + 1) (n + 1))) h0 h := hx
            clear hx
            refine zr_aload_n hO (hl := rfl) (j := 0) (hi := rfl) dX3_join_146 ?_
            refine zr_iload_n hO (hl := rfl) (j := 1) (hi := rfl) dX3_join_147 ?_
            refine zr_cVi hO zc_X3 zw_X3_139 (c_X3_length hI hf (zuA_at (zuA (zuS (zuA (zuS σ 0 (if (zB ((1 ≤ n ∧ n ≤ g 0) ∧ (1 ≤ n + 1 ∧ n + 1 ≤ g 0))) = 0 then 1 else 2 - 2 * (zB (((1 ≤ n ∧ n ≤ g 0) ∧ (1 ≤ n + 1 ∧ n + 1 ≤ g 0)) ∧ gln g n + gln g (n + 1) ≤ 24)))) 3 (grem A g u)) 6 (gret u)) 1 (gjn g n)) 1 (gtak (gjn g n) (n + 1) (n + 1))) n (by omega) (by omega)) dX3_join_148 (zrd_of hf.1) rfl (rest := []) rfl ⟨Nat.le_of_ble_eq_true rfl, Nat.le_of_ble_eq_true rfl⟩ (Nat.le_of_ble_eq_true rfl) (Nat.le_refl _) (Nat.le_refl _) (fun x h hx => ?_)
            obtain ⟨hx, ⟨r4a, r4b⟩, hf⟩ := hx
            have hx : x = gln (gtak (gjn g n) (n + 1) (n + 1)) n := hx
            subst hx
            exact zr_ireturn hO dX3_join_151 ⟨(by rw [if_pos c56]), (zuA (zuA (zuS (zuA (zuS σ 0 (if (zB ((1 ≤ n ∧ n ≤ g 0) ∧ (1 ≤ n + 1 ∧ n + 1 ≤ g 0))) = 0 then 1 else 2 - 2 * (zB (((1 ≤ n ∧ n ≤ g 0) ∧ (1 ≤ n + 1 ∧ n + 1 ≤ g 0)) ∧ gln g n + gln g (n + 1) ≤ 24)))) 3 (grem A g u)) 6 (gret u)) 1 (gjn g n)) 1 (gtak (gjn g n) (n + 1) (n + 1))), (rfl), (by rw [if_pos c56]; exact zCo.eq ((((((zCo.refl σ).uS (k := 0) (by decide) (if (zB ((1 ≤ n ∧ n ≤ g 0) ∧ (1 ≤ n + 1 ∧ n + 1 ≤ g 0))) = 0 then 1 else 2 - 2 * (zB (((1 ≤ n ∧ n ≤ g 0) ∧ (1 ≤ n + 1 ∧ n + 1 ≤ g 0)) ∧ gln g n + gln g (n + 1) ≤ 24)))).cA 3 (grem A g u)).cS 6 (gret u)).cA 1 (gjn g n)).cA 1 (gtak (gjn g n) (n + 1) (n + 1))) (fun k => by simp only [zuS, zuA, zset] <;> (repeat' split) <;> first | rfl | omega) (fun k hk => by simp only [zuS, zuA, zset] <;> (repeat' split) <;> first | rfl | omega)), hf⟩
          · skip
            refine zr_aload_n hO (hl := rfl) (j := 0) (hi := rfl) dX3_join_90 ?_
            refine zs_arr hO hf 1 dX3_join_91 q2971 (Nat.le_of_ble_eq_true rfl) rfl ?_
            refine zr_iload_n hO (hl := rfl) (j := 1) (hi := rfl) dX3_join_94 ?_
            refine zr_cSi hO zw_X3_125 (c_X3_lineAt n) dX3_join_95 rfl (rest := [zp (ad 1)]) rfl ⟨Nat.le_of_ble_eq_true rfl, Nat.le_of_ble_eq_true rfl⟩ (Nat.le_of_ble_eq_true rfl) (Nat.le_refl _) (Nat.le_refl _) (fun x h hx => ?_)
            obtain ⟨hx, rfl⟩ := hx
            have hx : x = 35 + 27 * (n - 1) := hx
            subst hx
            refine zr_iconst hO dX3_join_98 ?_
            refine zr_iadd hO dX3_join_99 ?_
            refine zr_iload_n hO (hl := rfl) (j := 2) (hi := rfl) dX3_join_100 ?_
            refine zr_iadd hO dX3_join_101 ?_
            refine zr_iload hO (hl := rfl) (j := 4) dX3_join_102 ?_
            refine zr_iadd hO dX3_join_104 ?_
            refine zr_aload_n hO (hl := rfl) (j := 0) (hi := rfl) dX3_join_105 ?_
            refine zr_iload_n hO (hl := rfl) (j := 1) (hi := rfl) dX3_join_106 ?_
            refine zr_iconst hO dX3_join_107 ?_
            refine zr_iadd hO dX3_join_108 ?_
            refine zr_iload hO (hl := rfl) (j := 4) dX3_join_109 ?_
            refine zr_cVi hO zc_X3 zw_X3_133 (c_X3_byteAt hI hf (zuA_at (zuS (zuA (zuS σ 0 (if (zB ((1 ≤ n ∧ n ≤ g 0) ∧ (1 ≤ n + 1 ∧ n + 1 ≤ g 0))) = 0 then 1 else 2 - 2 * (zB (((1 ≤ n ∧ n ≤ g 0) ∧ (1 ≤ n + 1 ∧ n + 1 ≤ g 0)) ∧ gln g n + gln g (n + 1) ≤ 24)))) 3 (grem A g u)) 6 (gret u)) 1 (gcp g (35 + 27 * n + 3) g (35 + 27 * (n - 1) + 3 + gln g n) i)) (n + 1) i (by omega) (by omega) (by omega) (by omega)) dX3_join_111 (zrd_of hf.1) rfl (rest := [zi ((((35 + 27 * (n - 1)) + 3) + (gln g n)) + i), zp (ad 1)]) rfl ⟨Nat.le_of_ble_eq_true rfl, Nat.le_of_ble_eq_true rfl⟩ (Nat.le_of_ble_eq_true rfl) (Nat.le_refl _) (Nat.le_refl _) (fun x h hx => ?_)
            obtain ⟨hx, ⟨r5a, r5b⟩, hf⟩ := hx
            have hx : x = gch (gcp g (35 + 27 * n + 3) g (35 + 27 * (n - 1) + 3 + gln g n) i) (n + 1) i := hx
            subst hx
            have hgc : gch (gcp g (35 + 27 * n + 3) g (35 + 27 * (n - 1) + 3 + gln g n) i) (n + 1) i = g (35 + 27 * n + 3 + i).toNat := by unfold gch gof gcp; rw [if_neg (by omega), show (35 + 27 * (n + 1 - 1) + (3 + i)).toNat = (35 + 27 * n + 3 + i).toNat by omega]
            rw [show (gch (gcp g (35 + 27 * n + 3) g (35 + 27 * (n - 1) + 3 + gln g n) i) (n + 1) i) = g (35 + 27 * n + 3 + i).toNat from hgc]
            refine zs_ist hO hI hf 1 (f := gcp g (35 + 27 * n + 3) g (35 + 27 * (n - 1) + 3 + gln g n) i) (n := 2195) (j := ((((35 + 27 * (n - 1)) + 3) + (gln g n)) + i).toNat) dX3_join_114 rfl rfl rfl rfl (by omega) (by omega) rfl ⟨by omega, by omega⟩ (fun h hf => ?_)
            refine zr_iinc hO (L' := [(5, zi (i + 1)), (0, zp r), (1, zi n), (3, zi (gln g n)), (4, zi (gln g (n + 1)))]) (j := 4) dX3_join_115 rfl (Nat.le_of_ble_eq_true rfl) rfl ?_
            refine zr_goto hO (tgt := 83) dX3_join_118 rfl ?_
            refine zV.loc [1, 2, 3, 4, 0] rfl ?_
            exact ih83 _ (by omega) (i + 1) rfl (by omega) (by omega) h (zRf_eq (by rw [zuA_uA, ← gcp_s g _ g (by omega) i1]) hf)
        refine zV.loc [4, 5, 2, 1, 0] rfl ?_
        exact hl83 _ 0 rfl (by omega) (by omega) h (zRf_eq (by rw [gcp_0]; exact (zuA_id' (σ := (zuS (zuA (zuS σ 0 (if (zB ((1 ≤ n ∧ n ≤ g 0) ∧ (1 ≤ n + 1 ∧ n + 1 ≤ g 0))) = 0 then 1 else 2 - 2 * (zB (((1 ≤ n ∧ n ≤ g 0) ∧ (1 ≤ n + 1 ∧ n + 1 ≤ g 0)) ∧ gln g n + gln g (n + 1) ≤ 24)))) 3 (grem A g u)) 6 (gret u))) 1 hg).symm) hf)
      · skip
        have c56 := zB_eq c56
        refine zr_iconst hO dX3_join_59 ?_
        exact zr_ireturn hO dX3_join_60 ⟨(by rw [if_neg c56]), (zuS σ 0 (if (zB ((1 ≤ n ∧ n ≤ g 0) ∧ (1 ≤ n + 1 ∧ n + 1 ≤ g 0))) = 0 then 1 else 2 - 2 * (zB (((1 ≤ n ∧ n ≤ g 0) ∧ (1 ≤ n + 1 ∧ n + 1 ≤ g 0)) ∧ gln g n + gln g (n + 1) ≤ 24)))), (rfl), (by rw [if_neg c56]; exact ((zCo.refl σ).uS (k := 0) (by decide) (if (zB ((1 ≤ n ∧ n ≤ g 0) ∧ (1 ≤ n + 1 ∧ n + 1 ≤ g 0))) = 0 then 1 else 2 - 2 * (zB (((1 ≤ n ∧ n ≤ g 0) ∧ (1 ≤ n + 1 ∧ n + 1 ≤ g 0)) ∧ gln g n + gln g (n + 1) ≤ 24))))), hf⟩
    refine zr_aload_n hO (hl := rfl) (j := 1) (hi := rfl) dX3_join_24 ?_
    refine zr_iload_n hO (hl := rfl) (j := 0) (hi := rfl) dX3_join_25 ?_
    refine zr_iload_n hO (hl := rfl) (j := 0) (hi := rfl) dX3_join_26 ?_
    refine zr_if_eq hO (zR_B _) (tgt := 52) dX3_join_27 rfl (fun c27 => ?_) (fun c27 => ?_)
    · skip
      have c27 := zB_eq c27
      refine zr_iconst hO dX3_join_52 ?_
      exact hj53 0 ((zB_f (by omega)).symm) h hf
    · skip
      have c27 := zB_ne c27
      have w3n := w3 n (by omega) (by omega)
      have w3m := w3 (n + 1) (by omega) (by omega)
      refine zr_aload_n hO (hl := rfl) (j := 1) (hi := rfl) dX3_join_30 ?_
      refine zr_iload_n hO (hl := rfl) (j := 2) (hi := rfl) dX3_join_31 ?_
      refine zr_cVi hO zc_X3 zw_X3_139 (c_X3_length hI hf hg n (by omega) (by omega)) dX3_join_32 (zrd_of hf.1) rfl (rest := [zi (zB ((1 ≤ n ∧ n ≤ g 0) ∧ (1 ≤ n + 1 ∧ n + 1 ≤ g 0))), zp r]) rfl ⟨Nat.le_of_ble_eq_true rfl, Nat.le_of_ble_eq_true rfl⟩ (Nat.le_of_ble_eq_true rfl) (Nat.le_refl _) (Nat.le_refl _) (fun x h hx => ?_)
      obtain ⟨hx, ⟨r6a, r6b⟩, hf⟩ := hx
      have hx : x = gln g n := hx
      subst hx
      refine zr_aload_n hO (hl := rfl) (j := 1) (hi := rfl) dX3_join_35 ?_
      refine zr_iload_n hO (hl := rfl) (j := 2) (hi := rfl) dX3_join_36 ?_
      refine zr_iconst hO dX3_join_37 ?_
      refine zr_iadd hO dX3_join_38 ?_
      refine zr_cVi hO zc_X3 zw_X3_139 (c_X3_length hI hf hg (n + 1) (by omega) (by omega)) dX3_join_39 (zrd_of hf.1) rfl (rest := [zi (gln g n), zi (zB ((1 ≤ n ∧ n ≤ g 0) ∧ (1 ≤ n + 1 ∧ n + 1 ≤ g 0))), zp r]) rfl ⟨Nat.le_of_ble_eq_true rfl, Nat.le_of_ble_eq_true rfl⟩ (Nat.le_of_ble_eq_true rfl) (Nat.le_refl _) (Nat.le_refl _) (fun x h hx => ?_)
      obtain ⟨hx, ⟨r7a, r7b⟩, hf⟩ := hx
      have hx : x = gln g (n + 1) := hx
      subst hx
      refine zr_iadd hO dX3_join_42 ?_
      refine zr_bipush hO (by decide) dX3_join_43 ?_
      refine zr_icmp_gt hO ⟨by omega, by omega⟩ ⟨by omega, by omega⟩ (tgt := 52) dX3_join_45 rfl (fun c45 => ?_) (fun c45 => ?_)
      · skip
        refine zr_iconst hO dX3_join_52 ?_
        exact hj53 0 ((zB_f (by omega)).symm) h hf
      · skip
        refine zr_iconst hO dX3_join_48 ?_
        refine zr_goto hO (tgt := 53) dX3_join_49 rfl ?_
        exact hj53 1 ((zB_t (by omega)).symm) h hf
  refine zr_aload_n hO (hl := rfl) (j := 0) (hi := rfl) dX3_join_0 ?_
  refine zr_iload_n hO (hl := rfl) (j := 1) (hi := rfl) dX3_join_1 ?_
  refine zr_cVi hO zc_X3 zw_X3_167 (c_X3_isLine hI hf hg n (⟨by omega, by omega⟩)) dX3_join_2 (zrd_of hf.1) rfl (rest := []) rfl ⟨Nat.le_of_ble_eq_true rfl, Nat.le_of_ble_eq_true rfl⟩ (Nat.le_of_ble_eq_true rfl) (Nat.le_refl _) (Nat.le_refl _) (fun x h hx => ?_)
  obtain ⟨hx, hf⟩ := hx
  have hx : x = zB (1 ≤ n ∧ n ≤ g 0) := hx
  subst hx
  refine zr_if_eq hO (zR_B _) (tgt := 22) dX3_join_5 rfl (fun c5 => ?_) (fun c5 => ?_)
  · skip
    have c5 := zB_eq c5
    refine zr_iconst hO dX3_join_22 ?_
    exact hj23 0 ((zB_f (by omega)).symm) h hf
  · skip
    have c5 := zB_ne c5
    refine zr_aload_n hO (hl := rfl) (j := 0) (hi := rfl) dX3_join_8 ?_
    refine zr_iload_n hO (hl := rfl) (j := 1) (hi := rfl) dX3_join_9 ?_
    refine zr_iconst hO dX3_join_10 ?_
    refine zr_iadd hO dX3_join_11 ?_
    refine zr_cVi hO zc_X3 zw_X3_167 (c_X3_isLine hI hf hg (n + 1) (⟨by omega, by omega⟩)) dX3_join_12 (zrd_of hf.1) rfl (rest := []) rfl ⟨Nat.le_of_ble_eq_true rfl, Nat.le_of_ble_eq_true rfl⟩ (Nat.le_of_ble_eq_true rfl) (Nat.le_refl _) (Nat.le_refl _) (fun x h hx => ?_)
    obtain ⟨hx, hf⟩ := hx
    have hx : x = zB (1 ≤ (n + 1) ∧ (n + 1) ≤ g 0) := hx
    subst hx
    refine zr_if_eq hO (zR_B _) (tgt := 22) dX3_join_15 rfl (fun c15 => ?_) (fun c15 => ?_)
    · skip
      have c15 := zB_eq c15
      refine zr_iconst hO dX3_join_22 ?_
      exact hj23 0 ((zB_f (by omega)).symm) h hf
    · skip
      have c15 := zB_ne c15
      refine zr_iconst hO dX3_join_18 ?_
      refine zr_goto hO (tgt := 23) dX3_join_19 rfl ?_
      exact hj23 1 ((zB_t (by omega)).symm) h hf
theorem c_X3_part {G : zG} {r : Nat} {ad : Nat → Nat} {h0 : zHp} (hI : zRI r ad) {σ : zS} {h : zHp} (hf : zRf r ad σ h0 h) {g : Nat → Int} (hg : σ.2 1 = g) {b : Nat → Int} (hb : σ.2 7 = b) {A : Nat → Int} (hA : σ.2 3 = A) {o : Nat → Int} (ho : σ.2 27 = o) {m9 : Nat → Int} (hm9 : σ.2 28 = m9) {q : Int} (hq : σ.1 8 = q) {u : Int} (hu : σ.1 6 = u) (n : Int) (i : Int) (hn : zR n) (hi : zR i) (hk1 : 0 ≤ g 1) (hk2 : g 1 ≤ 1000000) (hu1 : 0 ≤ u) (hu2 : u ≤ 8) (hq1 : 0 ≤ q) (hq2 : q ≤ 700) (hw : zwf g) : zC G yX3_part cX3_part 6 (some Jvm.ClassFile.FieldType.int) 5 112 0 0 [zp r, zi n, zi i] h (zPi (fun x h' => x = (if ((1 ≤ n ∧ n ≤ g 0) ∧ (0 ≤ i ∧ i ≤ gln g n)) ∧ g 0 < 80 then g 1 else 0) ∧ ∃ τ : zS, τ.1 0 = (if zB ((1 ≤ n ∧ n ≤ g 0) ∧ (0 ≤ i ∧ i ≤ gln g n)) = 0 then 1 else 2 - 2 * zB (g 0 < 80)) ∧ zCo (if ((1 ≤ n ∧ n ≤ g 0) ∧ (0 ≤ i ∧ i ≤ gln g n)) ∧ g 0 < 80 then zuA (zuS (zuA σ 3 (grem A g u)) 6 (gret u)) 1 (gsetG (gprt g n i) (n + 1) o) else σ) τ ∧ zRf r ad τ h0 h') zNo) := by
  refine zC.of zpn_X3 (Nat.le_of_ble_eq_true rfl) (L := [(0, zp r), (1, zi n), (2, zi i)]) rfl (fun K hO => ?_)
  obtain ⟨w1, w2, w3⟩ := id hw
  obtain ⟨hna, hnb⟩ := hn
  obtain ⟨hia, hib⟩ := hi
  have hj26 : ∀ (b : Int) (hb : b = zB ((1 ≤ n ∧ n ≤ g 0) ∧ (0 ≤ i ∧ i ≤ gln g n))) (h : zHp) (hf : zRf r ad σ h0 h), zV G K 0 0 h 26 [(0, zp r), (1, zi n), (2, zi i)] [zi b] := by
    intro b hb h hf
    subst hb
    refine zr_istore_n hO (L' := [(3, zi (zB ((1 ≤ n ∧ n ≤ g 0) ∧ (0 ≤ i ∧ i ≤ gln g n)))), (0, zp r), (1, zi n), (2, zi i)]) (hi := rfl) dX3_part_26 (Nat.le_of_ble_eq_true rfl) rfl ?_
    have hj45 : ∀ (b : Int) (hb : b = zB (g 0 < 80)) (h : zHp) (hf : zRf r ad σ h0 h), zV G K 0 0 h 45 [(3, zi (zB ((1 ≤ n ∧ n ≤ g 0) ∧ (0 ≤ i ∧ i ≤ gln g n)))), (0, zp r), (1, zi n), (2, zi i)] [zi b, zi (zB ((1 ≤ n ∧ n ≤ g 0) ∧ (0 ≤ i ∧ i ≤ gln g n))), zp r] := by
      intro b hb h hf
      subst hb
      refine zr_cVi hO zc_X3 zw_X3_170 (c_X3_mayBoth hI hf (zB ((1 ≤ n ∧ n ≤ g 0) ∧ (0 ≤ i ∧ i ≤ gln g n))) (zB (g 0 < 80)) (zB_01 _) (zB_01 _)) dX3_part_45 (zrd_of hf.1) rfl (rest := []) rfl ⟨Nat.le_of_ble_eq_true rfl, Nat.le_of_ble_eq_true rfl⟩ (Nat.le_of_ble_eq_true rfl) (Nat.le_refl _) (Nat.le_refl _) (fun x h hx => ?_)
      obtain ⟨hx, hf⟩ := hx
      have hx : x = zB ((zB ((1 ≤ n ∧ n ≤ g 0) ∧ (0 ≤ i ∧ i ≤ gln g n))) = 1 ∧ (zB (g 0 < 80)) = 1) := hx
      subst hx
      have hf : zRf r ad (zuS σ 0 (if (zB ((1 ≤ n ∧ n ≤ g 0) ∧ (0 ≤ i ∧ i ≤ gln g n))) = 0 then 1 else 2 - 2 * (zB (g 0 < 80)))) h0 h := hf
      rw [show (zB ((zB ((1 ≤ n ∧ n ≤ g 0) ∧ (0 ≤ i ∧ i ≤ gln g n))) = 1 ∧ (zB (g 0 < 80)) = 1)) = zB (((1 ≤ n ∧ n ≤ g 0) ∧ (0 ≤ i ∧ i ≤ gln g n)) ∧ g 0 < 80) from zB_and _ _]
      refine zr_if_ne hO (zR_B _) (tgt := 53) dX3_part_48 rfl (fun c48 => ?_) (fun c48 => ?_)
      · skip
        have c48 := zB_ne c48
        have w3n := w3 n (by omega) (by omega)
        have hgm : ∀ w, 0 ≤ w → w < 27 → gof (gcm g) n w = gof g n w := fun w a b => gcm_gof (by omega) (by omega) (by omega) a b
        refine zr_aload_n hO (hl := rfl) (j := 1) (hi := rfl) dX3_part_53 ?_
        refine zr_cVv hO zc_X3 zw_X3_294 (c_X3_remembers hI hf hg hA hu  (by omega) (by omega)) dX3_part_54 (zrd_of hf.1) rfl (rest := []) rfl ⟨Nat.le_of_ble_eq_true rfl, Nat.le_of_ble_eq_true rfl⟩ (Nat.le_of_ble_eq_true rfl) (Nat.le_refl _) (Nat.le_refl _) (fun h hx => ?_)
        have hf : zRf r ad (zuS (zuA (zuS σ 0 (if (zB ((1 ≤ n ∧ n ≤ g 0) ∧ (0 ≤ i ∧ i ≤ gln g n))) = 0 then 1 else 2 - 2 * (zB (g 0 < 80)))) 3 (grem A g u)) 6 (gret u)) h0 h := hx
        clear hx
        refine zr_aload_n hO (hl := rfl) (j := 1) (hi := rfl) dX3_part_57 ?_
        refine zr_cVi hO zc_X3 zw_X3_99 (c_X3_comes hI hf hg  (by omega) (by omega) (by omega) (by omega)) dX3_part_58 (zrd_of hf.1) rfl (rest := []) rfl ⟨Nat.le_of_ble_eq_true rfl, Nat.le_of_ble_eq_true rfl⟩ (Nat.le_of_ble_eq_true rfl) (Nat.le_refl _) (Nat.le_refl _) (fun x h hx => ?_)
        obtain ⟨hx, hf⟩ := hx
        have hx : x = 35 + 27 * g 0 := hx
        subst hx
        have hf : zRf r ad (zuA (zuS (zuA (zuS σ 0 (if (zB ((1 ≤ n ∧ n ≤ g 0) ∧ (0 ≤ i ∧ i ≤ gln g n))) = 0 then 1 else 2 - 2 * (zB (g 0 < 80)))) 3 (grem A g u)) 6 (gret u)) 1 (gcm g)) h0 h := hf
        refine zr_istore hO (L' := [(4, zi (35 + 27 * g 0)), (3, zi (zB ((1 ≤ n ∧ n ≤ g 0) ∧ (0 ≤ i ∧ i ≤ gln g n)))), (0, zp r), (1, zi n), (2, zi i)]) dX3_part_61 (Nat.le_of_ble_eq_true rfl) rfl ?_
        refine zr_iload_n hO (hl := rfl) (j := 4) (hi := rfl) dX3_part_63 ?_
        refine zr_istore hO (L' := [(5, zi i), (4, zi (35 + 27 * g 0)), (3, zi (zB ((1 ≤ n ∧ n ≤ g 0) ∧ (0 ≤ i ∧ i ≤ gln g n)))), (0, zp r), (1, zi n), (2, zi i)]) dX3_part_64 (Nat.le_of_ble_eq_true rfl) rfl ?_
        have hl66 : ∀ (n9 : Nat) (k : Int), (gln g n - k).toNat = n9 → ∀ (i1 : i ≤ k) (i2 : k ≤ gln g n) (h : zHp) (hf : zRf r ad (zuA (zuS (zuA (zuS σ 0 (if (zB ((1 ≤ n ∧ n ≤ g 0) ∧ (0 ≤ i ∧ i ≤ gln g n))) = 0 then 1 else 2 - 2 * (zB (g 0 < 80)))) 3 (grem A g u)) 6 (gret u)) 1 (gcp (gcm g) (35 + 27 * (n - 1) + 3 + i) (gcm g) (35 + 27 * g 0 + 3) (k - i))) h0 h), zV G K 0 0 h 66 [(0, zp r), (1, zi n), (2, zi i), (4, zi (35 + 27 * g 0)), (5, zi k)] [] := by
          intro n9
          induction n9 using Nat.strongRecOn with
          | _ n9 ih66 =>
          intro k hn66 i1 i2 h hf
          have hlk : gln (gcp (gcm g) (35 + 27 * (n - 1) + 3 + i) (gcm g) (35 + 27 * g 0 + 3) (k - i)) n = gln g n := (gcp_gof (by omega) (by omega) (by omega) (by omega)).trans (hgm 2 (by omega) (by omega))
          refine zr_iload hO (hl := rfl) (j := 4) dX3_part_66 ?_
          refine zr_aload_n hO (hl := rfl) (j := 0) (hi := rfl) dX3_part_68 ?_
          refine zr_iload_n hO (hl := rfl) (j := 1) (hi := rfl) dX3_part_69 ?_
          refine zr_cVi hO zc_X3 zw_X3_139 (c_X3_length hI hf (zuA_at (zuS (zuA (zuS σ 0 (if (zB ((1 ≤ n ∧ n ≤ g 0) ∧ (0 ≤ i ∧ i ≤ gln g n))) = 0 then 1 else 2 - 2 * (zB (g 0 < 80)))) 3 (grem A g u)) 6 (gret u)) 1 (gcp (gcm g) (35 + 27 * (n - 1) + 3 + i) (gcm g) (35 + 27 * g 0 + 3) (k - i))) n (by omega) (by omega)) dX3_part_70 (zrd_of hf.1) rfl (rest := [zi k]) rfl ⟨Nat.le_of_ble_eq_true rfl, Nat.le_of_ble_eq_true rfl⟩ (Nat.le_of_ble_eq_true rfl) (Nat.le_refl _) (Nat.le_refl _) (fun x h hx => ?_)
          obtain ⟨hx, ⟨r3a, r3b⟩, hf⟩ := hx
          have hx : x = gln (gcp (gcm g) (35 + 27 * (n - 1) + 3 + i) (gcm g) (35 + 27 * g 0 + 3) (k - i)) n := hx
          subst hx
          rw [show (gln (gcp (gcm g) (35 + 27 * (n - 1) + 3 + i) (gcm g) (35 + 27 * g 0 + 3) (k - i)) n) = gln g n from hlk]
          refine zr_icmp_ge hO ⟨by omega, by omega⟩ ⟨by omega, by omega⟩ (tgt := 103) dX3_part_73 rfl (fun c73 => ?_) (fun c73 => ?_)
          · skip
            refine zr_aload_n hO (hl := rfl) (j := 0) (hi := rfl) dX3_part_103 ?_
            refine zs_arr hO hf 1 dX3_part_104 q2971 (Nat.le_of_ble_eq_true rfl) rfl ?_
            refine zr_iload hO (hl := rfl) (j := 3) dX3_part_107 ?_
            refine zr_iconst hO dX3_part_109 ?_
            refine zr_iadd hO dX3_part_110 ?_
            refine zr_aload_n hO (hl := rfl) (j := 0) (hi := rfl) dX3_part_111 ?_
            refine zr_iload_n hO (hl := rfl) (j := 1) (hi := rfl) dX3_part_112 ?_
            refine zr_cVi hO zc_X3 zw_X3_139 (c_X3_length hI hf (zuA_at (zuS (zuA (zuS σ 0 (if (zB ((1 ≤ n ∧ n ≤ g 0) ∧ (0 ≤ i ∧ i ≤ gln g n))) = 0 then 1 else 2 - 2 * (zB (g 0 < 80)))) 3 (grem A g u)) 6 (gret u)) 1 (gcp (gcm g) (35 + 27 * (n - 1) + 3 + i) (gcm g) (35 + 27 * g 0 + 3) (k - i))) n (by omega) (by omega)) dX3_part_113 (zrd_of hf.1) rfl (rest := [zi ((35 + 27 * g 0) + 2), zp (ad 1)]) rfl ⟨Nat.le_of_ble_eq_true rfl, Nat.le_of_ble_eq_true rfl⟩ (Nat.le_of_ble_eq_true rfl) (Nat.le_refl _) (Nat.le_refl _) (fun x h hx => ?_)
            obtain ⟨hx, ⟨r4a, r4b⟩, hf⟩ := hx
            have hx : x = gln (gcp (gcm g) (35 + 27 * (n - 1) + 3 + i) (gcm g) (35 + 27 * g 0 + 3) (k - i)) n := hx
            subst hx
            rw [show (gln (gcp (gcm g) (35 + 27 * (n - 1) + 3 + i) (gcm g) (35 + 27 * g 0 + 3) (k - i)) n) = gln g n from hlk]
            refine zr_iload_n hO (hl := rfl) (j := 2) (hi := rfl) dX3_part_116 ?_
            refine zr_isub hO dX3_part_117 ?_
            refine zs_ist hO hI hf 1 (f := gcp (gcm g) (35 + 27 * (n - 1) + 3 + i) (gcm g) (35 + 27 * g 0 + 3) (k - i)) (n := 2195) (j := ((35 + 27 * g 0) + 2).toNat) dX3_part_118 rfl rfl rfl rfl (by omega) (by omega) rfl ⟨by omega, by omega⟩ (fun h hf => ?_)
            refine zr_aload_n hO (hl := rfl) (j := 0) (hi := rfl) dX3_part_119 ?_
            refine zs_arr hO hf 1 dX3_part_120 q2971 (Nat.le_of_ble_eq_true rfl) rfl ?_
            refine zr_iload_n hO (hl := rfl) (j := 1) (hi := rfl) dX3_part_123 ?_
            refine zr_cSi hO zw_X3_125 (c_X3_lineAt n) dX3_part_124 rfl (rest := [zp (ad 1)]) rfl ⟨Nat.le_of_ble_eq_true rfl, Nat.le_of_ble_eq_true rfl⟩ (Nat.le_of_ble_eq_true rfl) (Nat.le_refl _) (Nat.le_refl _) (fun x h hx => ?_)
            obtain ⟨hx, rfl⟩ := hx
            have hx : x = 35 + 27 * (n - 1) := hx
            subst hx
            refine zr_iconst hO dX3_part_127 ?_
            refine zr_iadd hO dX3_part_128 ?_
            refine zr_iload_n hO (hl := rfl) (j := 2) (hi := rfl) dX3_part_129 ?_
            refine zs_ist hO hI hf 1 (f := zset (gcp (gcm g) (35 + 27 * (n - 1) + 3 + i) (gcm g) (35 + 27 * g 0 + 3) (k - i)) (((35 + 27 * g 0) + 2).toNat) ((gln g n) - i)) (n := 2195) (j := ((35 + 27 * (n - 1)) + 2).toNat) dX3_part_130 rfl rfl rfl rfl (by omega) (by omega) rfl ⟨by omega, by omega⟩ (fun h hf => ?_)
            have hf : zRf r ad (zuA (zuS (zuA (zuS σ 0 (if (zB ((1 ≤ n ∧ n ≤ g 0) ∧ (0 ≤ i ∧ i ≤ gln g n))) = 0 then 1 else 2 - 2 * (zB (g 0 < 80)))) 3 (grem A g u)) 6 (gret u)) 1 (gprt g n i)) h0 h := zRf_eq (by rw [zuA_uA, zuA_uA, show k = gln g n by omega]; rfl) hf
            have hp0 : gprt g n i 0 = g 0 + 1 := gprt_0 g n i (by omega) (by omega)
            refine zr_aload_n hO (hl := rfl) (j := 0) (hi := rfl) dX3_part_131 ?_
            refine zs_arr hO hf 1 dX3_part_132 q2971 (Nat.le_of_ble_eq_true rfl) rfl ?_
            refine zr_iload hO (hl := rfl) (j := 3) dX3_part_135 ?_
            refine zr_iconst hO dX3_part_137 ?_
            refine zr_iadd hO dX3_part_138 ?_
            refine zs_ild hO hf 1 (f := gprt g n i) (n := 2195) (j := ((35 + 27 * g 0) + 0).toNat) dX3_part_139 rfl rfl rfl rfl (by omega) (by omega) rfl (fun ⟨r5a, r5b⟩ => ?_)
            rw [show ((gprt g n i) (((35 + 27 * g 0) + 0).toNat)) = g 1 from (gprt_k g n i (by omega) (by omega) (by omega))]
            refine zr_istore hO (L' := [(5, zi (g 1)), (0, zp r), (1, zi n), (2, zi i), (4, zi (35 + 27 * g 0))]) dX3_part_140 (Nat.le_of_ble_eq_true rfl) rfl ?_
            refine zr_aload_n hO (hl := rfl) (j := 1) (hi := rfl) dX3_part_142 ?_
            refine zr_iload_n hO (hl := rfl) (j := 2) (hi := rfl) dX3_part_143 ?_
            refine zr_iconst hO dX3_part_144 ?_
            refine zr_iadd hO dX3_part_145 ?_
            refine zr_cVv hO zc_X3 zw_X3_300 (c_X3_settles hI hf (zuA_at (zuS (zuA (zuS σ 0 (if (zB ((1 ≤ n ∧ n ≤ g 0) ∧ (0 ≤ i ∧ i ≤ gln g n))) = 0 then 1 else 2 - 2 * (zB (g 0 < 80)))) 3 (grem A g u)) 6 (gret u)) 1 (gprt g n i)) ho hm9 (n + 1) (by rw [hp0]; omega) (by rw [hp0]; omega) (by omega) (by omega)) dX3_part_146 (zrd_of hf.1) rfl (rest := []) rfl ⟨Nat.le_of_ble_eq_true rfl, Nat.le_of_ble_eq_true rfl⟩ (Nat.le_of_ble_eq_true rfl) (Nat.le_refl _) (Nat.le_refl _) (fun h hx => ?_)
            obtain ⟨τ1, hs1, ht1, hf⟩ := hx
            refine zr_iload hO (hl := rfl) (j := 0) dX3_part_149 ?_
            exact zr_ireturn hO dX3_part_151 ⟨(by rw [if_pos c48]), τ1, ((ht1.trans ((zuA_1 (zuA (zuS (zuA (zuS σ 0 (if (zB ((1 ≤ n ∧ n ≤ g 0) ∧ (0 ≤ i ∧ i ≤ gln g n))) = 0 then 1 else 2 - 2 * (zB (g 0 < 80)))) 3 (grem A g u)) 6 (gret u)) 1 (gprt g n i)) 1 (gsetG (gprt g n i) (n + 1) o) 0).trans ((zuA_1 (zuS (zuA (zuS σ 0 (if (zB ((1 ≤ n ∧ n ≤ g 0) ∧ (0 ≤ i ∧ i ≤ gln g n))) = 0 then 1 else 2 - 2 * (zB (g 0 < 80)))) 3 (grem A g u)) 6 (gret u)) 1 (gprt g n i) 0).trans ((zuS_ne (zuA (zuS σ 0 (if (zB ((1 ≤ n ∧ n ≤ g 0) ∧ (0 ≤ i ∧ i ≤ gln g n))) = 0 then 1 else 2 - 2 * (zB (g 0 < 80)))) 3 (grem A g u)) 6 (gret u) (j := 0) (by decide)).trans ((zuA_1 (zuS σ 0 (if (zB ((1 ≤ n ∧ n ≤ g 0) ∧ (0 ≤ i ∧ i ≤ gln g n))) = 0 then 1 else 2 - 2 * (zB (g 0 < 80)))) 3 (grem A g u) 0).trans (zuS_at σ 0 (if (zB ((1 ≤ n ∧ n ≤ g 0) ∧ (0 ≤ i ∧ i ≤ gln g n))) = 0 then 1 else 2 - 2 * (zB (g 0 < 80)))))))))), (by rw [if_pos c48]; exact zCo.eq (((((((zCo.refl σ).uS (k := 0) (by decide) (if (zB ((1 ≤ n ∧ n ≤ g 0) ∧ (0 ≤ i ∧ i ≤ gln g n))) = 0 then 1 else 2 - 2 * (zB (g 0 < 80)))).cA 3 (grem A g u)).cS 6 (gret u)).cA 1 (gprt g n i)).cA 1 (gsetG (gprt g n i) (n + 1) o)).trans hs1) (fun k => by simp only [zuS, zuA, zset] <;> (repeat' split) <;> first | rfl | omega) (fun k hk => by simp only [zuS, zuA, zset] <;> (repeat' split) <;> first | rfl | omega)), hf⟩
          · skip
            refine zr_aload_n hO (hl := rfl) (j := 0) (hi := rfl) dX3_part_76 ?_
            refine zs_arr hO hf 1 dX3_part_77 q2971 (Nat.le_of_ble_eq_true rfl) rfl ?_
            refine zr_iload hO (hl := rfl) (j := 3) dX3_part_80 ?_
            refine zr_iconst hO dX3_part_82 ?_
            refine zr_iadd hO dX3_part_83 ?_
            refine zr_iload hO (hl := rfl) (j := 4) dX3_part_84 ?_
            refine zr_iadd hO dX3_part_86 ?_
            refine zr_iload_n hO (hl := rfl) (j := 2) (hi := rfl) dX3_part_87 ?_
            refine zr_isub hO dX3_part_88 ?_
            refine zr_aload_n hO (hl := rfl) (j := 0) (hi := rfl) dX3_part_89 ?_
            refine zr_iload_n hO (hl := rfl) (j := 1) (hi := rfl) dX3_part_90 ?_
            refine zr_iload hO (hl := rfl) (j := 4) dX3_part_91 ?_
            refine zr_cVi hO zc_X3 zw_X3_133 (c_X3_byteAt hI hf (zuA_at (zuS (zuA (zuS σ 0 (if (zB ((1 ≤ n ∧ n ≤ g 0) ∧ (0 ≤ i ∧ i ≤ gln g n))) = 0 then 1 else 2 - 2 * (zB (g 0 < 80)))) 3 (grem A g u)) 6 (gret u)) 1 (gcp (gcm g) (35 + 27 * (n - 1) + 3 + i) (gcm g) (35 + 27 * g 0 + 3) (k - i))) n k (by omega) (by omega) (by omega) (by omega)) dX3_part_93 (zrd_of hf.1) rfl (rest := [zi ((((35 + 27 * g 0) + 3) + k) - i), zp (ad 1)]) rfl ⟨Nat.le_of_ble_eq_true rfl, Nat.le_of_ble_eq_true rfl⟩ (Nat.le_of_ble_eq_true rfl) (Nat.le_refl _) (Nat.le_refl _) (fun x h hx => ?_)
            obtain ⟨hx, ⟨r6a, r6b⟩, hf⟩ := hx
            have hx : x = gch (gcp (gcm g) (35 + 27 * (n - 1) + 3 + i) (gcm g) (35 + 27 * g 0 + 3) (k - i)) n k := hx
            subst hx
            have hgc : gch (gcp (gcm g) (35 + 27 * (n - 1) + 3 + i) (gcm g) (35 + 27 * g 0 + 3) (k - i)) n k = gcm g (35 + 27 * (n - 1) + 3 + i + (k - i)).toNat := (gcp_gof (by omega) (by omega) (by omega) (by omega)).trans (by unfold gof; rw [show 35 + 27 * (n - 1) + (3 + k) = 35 + 27 * (n - 1) + 3 + i + (k - i) by omega])
            rw [show (gch (gcp (gcm g) (35 + 27 * (n - 1) + 3 + i) (gcm g) (35 + 27 * g 0 + 3) (k - i)) n k) = gcm g (35 + 27 * (n - 1) + 3 + i + (k - i)).toNat from hgc]
            refine zs_ist hO hI hf 1 (f := gcp (gcm g) (35 + 27 * (n - 1) + 3 + i) (gcm g) (35 + 27 * g 0 + 3) (k - i)) (n := 2195) (j := (35 + 27 * g 0 + 3 + (k - i)).toNat) dX3_part_96 rfl rfl rfl rfl (by omega) (by omega) (by omega) ⟨by omega, by omega⟩ (fun h hf => ?_)
            refine zr_iinc hO (L' := [(5, zi (k + 1)), (0, zp r), (1, zi n), (2, zi i), (4, zi (35 + 27 * g 0))]) (j := 4) dX3_part_97 rfl (Nat.le_of_ble_eq_true rfl) rfl ?_
            refine zr_goto hO (tgt := 66) dX3_part_100 rfl ?_
            refine zV.loc [1, 2, 3, 4, 0] rfl ?_
            exact ih66 _ (by omega) (k + 1) rfl (by omega) (by omega) h (zRf_eq (by rw [zuA_uA, show k + 1 - i = k - i + 1 by omega, ← gcp_s (gcm g) _ (gcm g) (by omega) (by omega)]) hf)
        refine zV.loc [3, 4, 5, 1, 0] rfl ?_
        exact hl66 _ i rfl (by omega) (by omega) h (zRf_eq (by rw [show i - i = 0 by omega, gcp_0]) hf)
      · skip
        have c48 := zB_eq c48
        refine zr_iconst hO dX3_part_51 ?_
        exact zr_ireturn hO dX3_part_52 ⟨(by rw [if_neg c48]), (zuS σ 0 (if (zB ((1 ≤ n ∧ n ≤ g 0) ∧ (0 ≤ i ∧ i ≤ gln g n))) = 0 then 1 else 2 - 2 * (zB (g 0 < 80)))), (rfl), (by rw [if_neg c48]; exact ((zCo.refl σ).uS (k := 0) (by decide) (if (zB ((1 ≤ n ∧ n ≤ g 0) ∧ (0 ≤ i ∧ i ≤ gln g n))) = 0 then 1 else 2 - 2 * (zB (g 0 < 80))))), hf⟩
    refine zr_aload_n hO (hl := rfl) (j := 1) (hi := rfl) dX3_part_27 ?_
    refine zr_iload_n hO (hl := rfl) (j := 0) (hi := rfl) dX3_part_28 ?_
    refine zr_aload_n hO (hl := rfl) (j := 1) (hi := rfl) dX3_part_29 ?_
    refine zs_arr hO hf 1 dX3_part_30 q2971 (Nat.le_of_ble_eq_true rfl) rfl ?_
    refine zr_iconst hO dX3_part_33 ?_
    refine zs_ild hO hf 1 (f := g) (n := 2195) (j := 0) dX3_part_34 rfl rfl rfl hg (by omega) (by omega) rfl (fun ⟨r7a, r7b⟩ => ?_)
    refine zr_bipush hO (by decide) dX3_part_35 ?_
    refine zr_icmp_ge hO ⟨by omega, by omega⟩ ⟨by omega, by omega⟩ (tgt := 44) dX3_part_37 rfl (fun c37 => ?_) (fun c37 => ?_)
    · skip
      refine zr_iconst hO dX3_part_44 ?_
      exact hj45 0 ((zB_f (by omega)).symm) h hf
    · skip
      refine zr_iconst hO dX3_part_40 ?_
      refine zr_goto hO (tgt := 45) dX3_part_41 rfl ?_
      exact hj45 1 ((zB_t (by omega)).symm) h hf
  refine zr_aload_n hO (hl := rfl) (j := 0) (hi := rfl) dX3_part_0 ?_
  refine zr_iload_n hO (hl := rfl) (j := 1) (hi := rfl) dX3_part_1 ?_
  refine zr_cVi hO zc_X3 zw_X3_167 (c_X3_isLine hI hf hg n (⟨by omega, by omega⟩)) dX3_part_2 (zrd_of hf.1) rfl (rest := []) rfl ⟨Nat.le_of_ble_eq_true rfl, Nat.le_of_ble_eq_true rfl⟩ (Nat.le_of_ble_eq_true rfl) (Nat.le_refl _) (Nat.le_refl _) (fun x h hx => ?_)
  obtain ⟨hx, hf⟩ := hx
  have hx : x = zB (1 ≤ n ∧ n ≤ g 0) := hx
  subst hx
  refine zr_if_eq hO (zR_B _) (tgt := 25) dX3_part_5 rfl (fun c5 => ?_) (fun c5 => ?_)
  · skip
    have c5 := zB_eq c5
    refine zr_iconst hO dX3_part_25 ?_
    exact hj26 0 ((zB_f (by omega)).symm) h hf
  · skip
    have c5 := zB_ne c5
    refine zr_iload_n hO (hl := rfl) (j := 2) (hi := rfl) dX3_part_8 ?_
    have w3n := w3 n (by omega) (by omega)
    refine zr_iconst hO dX3_part_9 ?_
    refine zr_aload_n hO (hl := rfl) (j := 0) (hi := rfl) dX3_part_10 ?_
    refine zr_iload_n hO (hl := rfl) (j := 1) (hi := rfl) dX3_part_11 ?_
    refine zr_cVi hO zc_X3 zw_X3_139 (c_X3_length hI hf hg n (by omega) (by omega)) dX3_part_12 (zrd_of hf.1) rfl (rest := [zi 0, zi i]) rfl ⟨Nat.le_of_ble_eq_true rfl, Nat.le_of_ble_eq_true rfl⟩ (Nat.le_of_ble_eq_true rfl) (Nat.le_refl _) (Nat.le_refl _) (fun x h hx => ?_)
    obtain ⟨hx, ⟨r9a, r9b⟩, hf⟩ := hx
    have hx : x = gln g n := hx
    subst hx
    refine zr_cSi hO zw_X3_95 (c_X3_in i 0 (gln g n) (⟨by omega, by omega⟩) (⟨by omega, by omega⟩) (⟨by omega, by omega⟩)) dX3_part_15 rfl (rest := []) rfl ⟨Nat.le_of_ble_eq_true rfl, Nat.le_of_ble_eq_true rfl⟩ (Nat.le_of_ble_eq_true rfl) (Nat.le_refl _) (Nat.le_refl _) (fun x h hx => ?_)
    obtain ⟨hx, rfl⟩ := hx
    have hx : x = zB (0 ≤ i ∧ i ≤ (gln g n)) := hx
    subst hx
    refine zr_if_eq hO (zR_B _) (tgt := 25) dX3_part_18 rfl (fun c18 => ?_) (fun c18 => ?_)
    · skip
      have c18 := zB_eq c18
      refine zr_iconst hO dX3_part_25 ?_
      exact hj26 0 ((zB_f (by omega)).symm) h hf
    · skip
      have c18 := zB_ne c18
      refine zr_iconst hO dX3_part_21 ?_
      refine zr_goto hO (tgt := 26) dX3_part_22 rfl ?_
      exact hj26 1 ((zB_t (by omega)).symm) h hf
theorem c_X3_openAll {G : zG} {r : Nat} {ad : Nat → Nat} {h0 : zHp} (hI : zRI r ad) {σ : zS} {h : zHp} (hf : zRf r ad σ h0 h) {g : Nat → Int} (hg : σ.2 1 = g) {b : Nat → Int} (hb : σ.2 7 = b) {A : Nat → Int} (hA : σ.2 3 = A) {o : Nat → Int} (ho : σ.2 27 = o) {m9 : Nat → Int} (hm9 : σ.2 28 = m9) {q : Int} (hq : σ.1 8 = q) {u : Int} (hu : σ.1 6 = u) (hc01 : ∀ n, 1 ≤ n → n ≤ g 0 → gcl g n = 0 ∨ gcl g n = 1) (hu1 : 0 ≤ u) (hu2 : u ≤ 8) (hq1 : 0 ≤ q) (hq2 : q ≤ 700) (hw : zwf g) : zC G yX3_openAll cX3_openAll 3 (some Jvm.ClassFile.FieldType.int) 2 45 0 0 [zp r] h (zPi (fun x h' => x = (zsn (gcl g) (g 0).toNat) ∧ ∃ τ : zS, τ.1 0 = 0 ∧ zCo (zuA (zuS (zuA σ 3 (grem A g u)) 6 (gret u)) 1 (gsc g (fun m => decide (1 ≤ m ∧ m ≤ g 0)) 0)) τ ∧ zRf r ad τ h0 h') zNo) := by
  refine zC.of zpn_X3 (Nat.le_of_ble_eq_true rfl) (L := [(0, zp r)]) rfl (fun K hO => ?_)
  obtain ⟨w1, w2, w3⟩ := id hw
  have hsm : ∀ k : Nat, (k : Int) ≤ g 0 → 0 ≤ zsn (gcl g) k ∧ zsn (gcl g) k ≤ k := fun k => zsn_01 (fun n a b => hc01 n a b) k
  refine zr_aload_n hO (hl := rfl) (j := 0) (hi := rfl) dX3_openAll_0 ?_
  refine zr_iconst hO dX3_openAll_1 ?_
  refine zs_put hO hI hf 0 dX3_openAll_2 q2970 (Nat.le_of_ble_eq_true rfl) rfl rfl rfl ⟨by omega, by omega⟩ (fun h hf => ?_)
  refine zr_aload_n hO (hl := rfl) (j := 0) (hi := rfl) dX3_openAll_5 ?_
  refine zr_cVv hO zc_X3 zw_X3_294 (c_X3_remembers hI hf hg hA hu  (by omega) (by omega)) dX3_openAll_6 (zrd_of hf.1) rfl (rest := []) rfl ⟨Nat.le_of_ble_eq_true rfl, Nat.le_of_ble_eq_true rfl⟩ (Nat.le_of_ble_eq_true rfl) (Nat.le_refl _) (Nat.le_refl _) (fun h hx => ?_)
  have hf : zRf r ad (zuS (zuA (zuS σ 0 0) 3 (grem A g u)) 6 (gret u)) h0 h := hx
  clear hx
  refine zr_iconst hO dX3_openAll_9 ?_
  refine zr_istore_n hO (L' := [(1, zi 0), (0, zp r)]) (hi := rfl) dX3_openAll_10 (Nat.le_of_ble_eq_true rfl) rfl ?_
  refine zr_iconst hO dX3_openAll_11 ?_
  refine zr_istore_n hO (L' := [(2, zi 1), (1, zi 0), (0, zp r)]) (hi := rfl) dX3_openAll_12 (Nat.le_of_ble_eq_true rfl) rfl ?_
  have hl13 : ∀ (n9 : Nat) (n a : Int), (g 0 + 1 - n).toNat = n9 → ∀ (i1 : 1 ≤ n) (i2 : n ≤ g 0 + 1) (i3 : a = zsn (gcl g) (n - 1).toNat) (h : zHp) (hf : zRf r ad (zuA (zuS (zuA (zuS σ 0 0) 3 (grem A g u)) 6 (gret u)) 1 (gsc g (fun m => decide (1 ≤ m ∧ m < n)) 0)) h0 h), zV G K 0 0 h 13 [(0, zp r), (1, zi a), (2, zi n)] [] := by
    intro n9
    induction n9 using Nat.strongRecOn with
    | _ n9 ih13 =>
    intro n a hn13 i1 i2 i3 h hf
    have hs1 := hsm (n - 1).toNat (by omega)
    refine zr_iload_n hO (hl := rfl) (j := 2) (hi := rfl) dX3_openAll_13 ?_
    refine zr_aload_n hO (hl := rfl) (j := 0) (hi := rfl) dX3_openAll_14 ?_
    refine zs_arr hO hf 1 dX3_openAll_15 q2971 (Nat.le_of_ble_eq_true rfl) rfl ?_
    refine zr_iconst hO dX3_openAll_18 ?_
    refine zs_ild hO hf 1 (f := gsc g (fun m => decide (1 ≤ m ∧ m < n)) 0) (n := 2195) (j := 0) dX3_openAll_19 rfl rfl rfl rfl (by omega) (by omega) rfl (fun ⟨r1a, r1b⟩ => ?_)
    rw [show ((gsc g (fun m => decide (1 ≤ m ∧ m < n)) 0) 0) = g 0 from (gsc_lo (by omega))]
    refine zr_icmp_gt hO ⟨by omega, by omega⟩ ⟨by omega, by omega⟩ (tgt := 50) dX3_openAll_20 rfl (fun c20 => ?_) (fun c20 => ?_)
    · skip
      refine zr_iload_n hO (hl := rfl) (j := 1) (hi := rfl) dX3_openAll_50 ?_
      exact zr_ireturn hO dX3_openAll_51 ⟨(by rw [i3, show n - 1 = g 0 by omega]), (zuA (zuS (zuA (zuS σ 0 0) 3 (grem A g u)) 6 (gret u)) 1 (gsc g (fun m => decide (1 ≤ m ∧ m < n)) 0)), (rfl), (by have e9 : gsc g (fun m => decide (1 ≤ m ∧ m < n)) 0 = gsc g (fun m => decide (1 ≤ m ∧ m ≤ g 0)) 0 := (gsc_skip (fun m a b => decide_eq_decide.mpr (by omega))); rw [← e9]; exact zCo.eq (((((zCo.refl σ).uS (k := 0) (by decide) 0).cA 3 (grem A g u)).cS 6 (gret u)).cA 1 (gsc g (fun m => decide (1 ≤ m ∧ m < n)) 0)) (fun k => by simp only [zuS, zuA, zset] <;> (repeat' split) <;> first | rfl | omega) (fun k hk => by simp only [zuS, zuA, zset] <;> (repeat' split) <;> first | rfl | omega)), hf⟩
    · skip
      refine zr_iload_n hO (hl := rfl) (j := 1) (hi := rfl) dX3_openAll_23 ?_
      refine zr_aload_n hO (hl := rfl) (j := 0) (hi := rfl) dX3_openAll_24 ?_
      refine zr_iload_n hO (hl := rfl) (j := 2) (hi := rfl) dX3_openAll_25 ?_
      refine zr_iconst hO dX3_openAll_26 ?_
      refine zr_cVi hO zc_X3 zw_X3_129 (c_X3_of hI hf (zuA_at (zuS (zuA (zuS σ 0 0) 3 (grem A g u)) 6 (gret u)) 1 (gsc g (fun m => decide (1 ≤ m ∧ m < n)) 0)) n 1 (by omega) (by omega)) dX3_openAll_27 (zrd_of hf.1) rfl (rest := [zi a]) rfl ⟨Nat.le_of_ble_eq_true rfl, Nat.le_of_ble_eq_true rfl⟩ (Nat.le_of_ble_eq_true rfl) (Nat.le_refl _) (Nat.le_refl _) (fun x h hx => ?_)
      obtain ⟨hx, ⟨r2a, r2b⟩, hf⟩ := hx
      have hx : x = gcl (gsc g (fun m => decide (1 ≤ m ∧ m < n)) 0) n := hx
      subst hx
      rw [show (gcl (gsc g (fun m => decide (1 ≤ m ∧ m < n)) 0) n) = gcl g n from ((gsc_at i1 (by omega)).trans (if_neg (by simp)))]
      refine zr_iadd hO dX3_openAll_30 ?_
      refine zr_istore_n hO (L' := [(1, zi (a + (gcl g n))), (0, zp r), (2, zi n)]) (hi := rfl) dX3_openAll_31 (Nat.le_of_ble_eq_true rfl) rfl ?_
      refine zr_aload_n hO (hl := rfl) (j := 1) (hi := rfl) dX3_openAll_32 ?_
      refine zs_arr hO hf 1 dX3_openAll_33 q2971 (Nat.le_of_ble_eq_true rfl) rfl ?_
      refine zr_iload_n hO (hl := rfl) (j := 2) (hi := rfl) dX3_openAll_36 ?_
      refine zr_cSi hO zw_X3_125 (c_X3_lineAt n) dX3_openAll_37 rfl (rest := [zp (ad 1)]) rfl ⟨Nat.le_of_ble_eq_true rfl, Nat.le_of_ble_eq_true rfl⟩ (Nat.le_of_ble_eq_true rfl) (Nat.le_refl _) (Nat.le_refl _) (fun x h hx => ?_)
      obtain ⟨hx, rfl⟩ := hx
      have hx : x = 35 + 27 * (n - 1) := hx
      subst hx
      refine zr_iconst hO dX3_openAll_40 ?_
      refine zr_iadd hO dX3_openAll_41 ?_
      refine zr_iconst hO dX3_openAll_42 ?_
      refine zs_ist hO hI hf 1 (f := gsc g (fun m => decide (1 ≤ m ∧ m < n)) 0) (n := 2195) (j := (35 + 27 * (n - 1) + 1).toNat) dX3_openAll_43 rfl rfl rfl rfl (by omega) (by omega) rfl ⟨by omega, by omega⟩ (fun h hf => ?_)
      refine zr_iinc hO (L' := [(2, zi (n + 1)), (1, zi (a + (gcl g n))), (0, zp r)]) (j := 2) dX3_openAll_44 rfl (Nat.le_of_ble_eq_true rfl) rfl ?_
      refine zr_goto hO (tgt := 13) dX3_openAll_47 rfl ?_
      refine zV.loc [2, 1, 0] rfl ?_
      exact ih13 _ (by omega) (n + 1) (a + (gcl g n)) rfl (by omega) (by omega) (by rw [show n + 1 - 1 = n by omega, zsn_p _ i1, ← i3]) h (zRf_eq (by rw [zuA_uA, gsc_s (p' := fun m => decide (1 ≤ m ∧ m < n + 1)) i1 (by omega) (fun m a b => by rw [← Bool.decide_or]; exact decide_eq_decide.mpr (by omega))]) hf)
  refine zV.loc [2, 1, 0] rfl ?_
  exact hl13 _ 1 0 rfl (by omega) (by omega) (rfl) h (zRf_eq (by rw [gsc_none (fun m a b => decide_eq_false (by omega))]; exact (zuA_id' (σ := (zuS (zuA (zuS σ 0 0) 3 (grem A g u)) 6 (gret u))) 1 hg).symm) hf)
theorem c_X3_show {G : zG} {r : Nat} {ad : Nat → Nat} {h0 : zHp} (hI : zRI r ad) {σ : zS} {h : zHp} (hf : zRf r ad σ h0 h) {g : Nat → Int} (hg : σ.2 1 = g) {b : Nat → Int} (hb : σ.2 7 = b) {A : Nat → Int} (hA : σ.2 3 = A) {o : Nat → Int} (ho : σ.2 27 = o) {m9 : Nat → Int} (hm9 : σ.2 28 = m9) {q : Int} (hq : σ.1 8 = q) {u : Int} (hu : σ.1 6 = u) (n : Int) (hn : zR n) (hu1 : 0 ≤ u) (hu2 : u ≤ 8) (hq1 : 0 ≤ q) (hq2 : q ≤ 700) (hw : zwf g) : zC G yX3_show cX3_show 2 (some Jvm.ClassFile.FieldType.int) 9 203 0 0 [zp r, zi n] h (zPi (fun x h' => x = (if 1 ≤ n ∧ n ≤ g 0 then gopm g n else 0) ∧ ∃ τ : zS, τ.1 0 = (1 - zB (1 ≤ n ∧ n ≤ g 0)) ∧ zCo (if 1 ≤ n ∧ n ≤ g 0 then zuA (zuS (zuA σ 3 (grem A g u)) 6 (gret u)) 1 (gsw g n) else σ) τ ∧ zRf r ad τ h0 h') zNo) := by
  refine zC.of zpn_X3 (Nat.le_of_ble_eq_true rfl) (L := [(0, zp r), (1, zi n)]) rfl (fun K hO => ?_)
  obtain ⟨w1, w2, w3⟩ := id hw
  obtain ⟨hna, hnb⟩ := hn
  refine zr_aload_n hO (hl := rfl) (j := 0) (hi := rfl) dX3_show_0 ?_
  refine zr_aload_n hO (hl := rfl) (j := 0) (hi := rfl) dX3_show_1 ?_
  refine zr_iload_n hO (hl := rfl) (j := 1) (hi := rfl) dX3_show_2 ?_
  refine zr_cVi hO zc_X3 zw_X3_167 (c_X3_isLine hI hf hg n (⟨by omega, by omega⟩)) dX3_show_3 (zrd_of hf.1) rfl (rest := [zp r]) rfl ⟨Nat.le_of_ble_eq_true rfl, Nat.le_of_ble_eq_true rfl⟩ (Nat.le_of_ble_eq_true rfl) (Nat.le_refl _) (Nat.le_refl _) (fun x h hx => ?_)
  obtain ⟨hx, hf⟩ := hx
  have hx : x = zB (1 ≤ n ∧ n ≤ g 0) := hx
  subst hx
  refine zr_cVi hO zc_X3 zw_X3_111 (c_X3_may hI hf (zB (1 ≤ n ∧ n ≤ g 0)) (zB_01 _)) dX3_show_6 (zrd_of hf.1) rfl (rest := []) rfl ⟨Nat.le_of_ble_eq_true rfl, Nat.le_of_ble_eq_true rfl⟩ (Nat.le_of_ble_eq_true rfl) (Nat.le_refl _) (Nat.le_refl _) (fun x h hx => ?_)
  obtain ⟨hx, hf⟩ := hx
  have hx : x = (zB (1 ≤ n ∧ n ≤ g 0)) := hx
  subst hx
  have hf : zRf r ad (zuS σ 0 (1 - (zB (1 ≤ n ∧ n ≤ g 0)))) h0 h := hf
  refine zr_if_ne hO (zR_B _) (tgt := 14) dX3_show_9 rfl (fun c9 => ?_) (fun c9 => ?_)
  · skip
    have c9 := zB_ne c9
    refine zr_aload_n hO (hl := rfl) (j := 0) (hi := rfl) dX3_show_14 ?_
    refine zr_cVv hO zc_X3 zw_X3_294 (c_X3_remembers hI hf hg hA hu  (by omega) (by omega)) dX3_show_15 (zrd_of hf.1) rfl (rest := []) rfl ⟨Nat.le_of_ble_eq_true rfl, Nat.le_of_ble_eq_true rfl⟩ (Nat.le_of_ble_eq_true rfl) (Nat.le_refl _) (Nat.le_refl _) (fun h hx => ?_)
    have hf : zRf r ad (zuS (zuA (zuS σ 0 (1 - (zB (1 ≤ n ∧ n ≤ g 0)))) 3 (grem A g u)) 6 (gret u)) h0 h := hx
    clear hx
    refine zr_aload_n hO (hl := rfl) (j := 0) (hi := rfl) dX3_show_18 ?_
    refine zr_iload_n hO (hl := rfl) (j := 1) (hi := rfl) dX3_show_19 ?_
    refine zr_cVi hO zc_X3 zw_X3_266 (c_X3_shows hI hf hg n (⟨by omega, by omega⟩) (hw)) dX3_show_20 (zrd_of hf.1) rfl (rest := []) rfl ⟨Nat.le_of_ble_eq_true rfl, Nat.le_of_ble_eq_true rfl⟩ (Nat.le_of_ble_eq_true rfl) (Nat.le_refl _) (Nat.le_refl _) (fun x h hx => ?_)
    obtain ⟨hxv, τ1, hs1, hf⟩ := hx
    have hxv : x = gopm g n := hxv
    rw [hxv]
    exact zr_ireturn hO dX3_show_23 ⟨(by rw [if_pos c9]), τ1, (((hs1.1 0 (by decide) (by decide)).trans rfl)), (by rw [if_pos c9]; exact zCo.eq ((((((zCo.refl σ).uS (k := 0) (by decide) (1 - (zB (1 ≤ n ∧ n ≤ g 0)))).cA 3 (grem A g u)).cS 6 (gret u)).cA 1 (gsw g n)).tr hs1) (fun k => by simp only [zuS, zuA, zset] <;> (repeat' split) <;> first | rfl | omega) (fun k hk => by simp only [zuS, zuA, zset] <;> (repeat' split) <;> first | rfl | omega)), hf⟩
  · skip
    have c9 := zB_eq c9
    refine zr_iconst hO dX3_show_12 ?_
    exact zr_ireturn hO dX3_show_13 ⟨(by rw [if_neg c9]), (zuS σ 0 (1 - (zB (1 ≤ n ∧ n ≤ g 0)))), (rfl), (by rw [if_neg c9]; exact ((zCo.refl σ).uS (k := 0) (by decide) (1 - (zB (1 ≤ n ∧ n ≤ g 0))))), hf⟩
theorem c_X3_mark {G : zG} {r : Nat} {ad : Nat → Nat} {h0 : zHp} (hI : zRI r ad) {σ : zS} {h : zHp} (hf : zRf r ad σ h0 h) {g : Nat → Int} (hg : σ.2 1 = g) {b : Nat → Int} (hb : σ.2 7 = b) {A : Nat → Int} (hA : σ.2 3 = A) {o : Nat → Int} (ho : σ.2 27 = o) {m9 : Nat → Int} (hm9 : σ.2 28 = m9) {q : Int} (hq : σ.1 8 = q) {u : Int} (hu : σ.1 6 = u) (m : Int) (n : Int) (hm : zR m) (hn : zR n) (hu1 : 0 ≤ u) (hu2 : u ≤ 8) (hq1 : 0 ≤ q) (hq2 : q ≤ 700) (hw : zwf g) : zC G yX3_mark cX3_mark 4 (some Jvm.ClassFile.FieldType.int) 3 64 0 0 [zp r, zi m, zi n] h (zPi (fun x h' => x = (if (0 ≤ m ∧ m ≤ 9) ∧ (0 ≤ n ∧ n ≤ g 0) then (if g (5 + m).toNat = -1 then 0 else gnu g (g (5 + m).toNat)) else 0) ∧ ∃ τ : zS, τ.1 0 = (1 - zB ((0 ≤ m ∧ m ≤ 9) ∧ (0 ≤ n ∧ n ≤ g 0))) ∧ zCo (if (0 ≤ m ∧ m ≤ 9) ∧ (0 ≤ n ∧ n ≤ g 0) then zuA (zuS (zuA σ 3 (grem A g u)) 6 (gret u)) 1 (zset g (5 + m).toNat (if n = 0 then -1 else gky g n)) else σ) τ ∧ zRf r ad τ h0 h') zNo) := by
  refine zC.of zpn_X3 (Nat.le_of_ble_eq_true rfl) (L := [(0, zp r), (1, zi m), (2, zi n)]) rfl (fun K hO => ?_)
  obtain ⟨w1, w2, w3⟩ := id hw
  obtain ⟨hma, hmb⟩ := hm
  obtain ⟨hna, hnb⟩ := hn
  have hj27 : ∀ (b : Int) (hb : b = zB ((0 ≤ m ∧ m ≤ 9) ∧ (0 ≤ n ∧ n ≤ g 0))) (h : zHp) (hf : zRf r ad σ h0 h), zV G K 0 0 h 27 [(0, zp r), (1, zi m), (2, zi n)] [zi b, zp r] := by
    intro b hb h hf
    subst hb
    refine zr_cVi hO zc_X3 zw_X3_111 (c_X3_may hI hf (zB ((0 ≤ m ∧ m ≤ 9) ∧ (0 ≤ n ∧ n ≤ g 0))) (zB_01 _)) dX3_mark_27 (zrd_of hf.1) rfl (rest := []) rfl ⟨Nat.le_of_ble_eq_true rfl, Nat.le_of_ble_eq_true rfl⟩ (Nat.le_of_ble_eq_true rfl) (Nat.le_refl _) (Nat.le_refl _) (fun x h hx => ?_)
    obtain ⟨hx, hf⟩ := hx
    have hx : x = (zB ((0 ≤ m ∧ m ≤ 9) ∧ (0 ≤ n ∧ n ≤ g 0))) := hx
    subst hx
    have hf : zRf r ad (zuS σ 0 (1 - (zB ((0 ≤ m ∧ m ≤ 9) ∧ (0 ≤ n ∧ n ≤ g 0))))) h0 h := hf
    refine zr_if_ne hO (zR_B _) (tgt := 35) dX3_mark_30 rfl (fun c30 => ?_) (fun c30 => ?_)
    · skip
      have c30 := zB_ne c30
      refine zr_aload_n hO (hl := rfl) (j := 0) (hi := rfl) dX3_mark_35 ?_
      refine zr_cVv hO zc_X3 zw_X3_294 (c_X3_remembers hI hf hg hA hu  (by omega) (by omega)) dX3_mark_36 (zrd_of hf.1) rfl (rest := []) rfl ⟨Nat.le_of_ble_eq_true rfl, Nat.le_of_ble_eq_true rfl⟩ (Nat.le_of_ble_eq_true rfl) (Nat.le_refl _) (Nat.le_refl _) (fun h hx => ?_)
      have hf : zRf r ad (zuS (zuA (zuS σ 0 (1 - (zB ((0 ≤ m ∧ m ≤ 9) ∧ (0 ≤ n ∧ n ≤ g 0))))) 3 (grem A g u)) 6 (gret u)) h0 h := hx
      clear hx
      refine zr_aload_n hO (hl := rfl) (j := 0) (hi := rfl) dX3_mark_39 ?_
      refine zs_arr hO hf 1 dX3_mark_40 q2971 (Nat.le_of_ble_eq_true rfl) rfl ?_
      refine zr_iconst hO dX3_mark_43 ?_
      refine zr_iload_n hO (hl := rfl) (j := 1) (hi := rfl) dX3_mark_44 ?_
      refine zr_iadd hO dX3_mark_45 ?_
      refine zs_ild hO hf 1 (f := g) (n := 2195) (j := (5 + m).toNat) dX3_mark_46 rfl rfl rfl hg (by omega) (by omega) rfl (fun ⟨r2a, r2b⟩ => ?_)
      refine zr_iconst hO dX3_mark_47 ?_
      refine zr_icmp_ne hO ⟨by omega, by omega⟩ ⟨by omega, by omega⟩ (tgt := 55) dX3_mark_48 rfl (fun c48 => ?_) (fun c48 => ?_)
      · skip
        refine zr_aload_n hO (hl := rfl) (j := 0) (hi := rfl) dX3_mark_55 ?_
        refine zr_aload_n hO (hl := rfl) (j := 0) (hi := rfl) dX3_mark_56 ?_
        refine zs_arr hO hf 1 dX3_mark_57 q2971 (Nat.le_of_ble_eq_true rfl) rfl ?_
        refine zr_iconst hO dX3_mark_60 ?_
        refine zr_iload_n hO (hl := rfl) (j := 1) (hi := rfl) dX3_mark_61 ?_
        refine zr_iadd hO dX3_mark_62 ?_
        refine zs_ild hO hf 1 (f := g) (n := 2195) (j := (5 + m).toNat) dX3_mark_63 rfl rfl rfl hg (by omega) (by omega) rfl (fun ⟨r3a, r3b⟩ => ?_)
        refine zr_cVi hO zc_X3 zw_X3_192 (c_X3_numberOf hI hf hg (g ((5 + m).toNat)) (⟨by omega, by omega⟩) (by omega) (by omega)) dX3_mark_64 (zrd_of hf.1) rfl (rest := []) rfl ⟨Nat.le_of_ble_eq_true rfl, Nat.le_of_ble_eq_true rfl⟩ (Nat.le_of_ble_eq_true rfl) (Nat.le_refl _) (Nat.le_refl _) (fun x h hx => ?_)
        obtain ⟨hx, hf⟩ := hx
        have hx : x = gnu g (g ((5 + m).toNat)) := hx
        subst hx
        refine zr_istore_n hO (L' := [(3, zi (gnu g (g ((5 + m).toNat)))), (0, zp r), (1, zi m), (2, zi n)]) (hi := rfl) dX3_mark_67 (Nat.le_of_ble_eq_true rfl) rfl ?_
        refine zr_aload_n hO (hl := rfl) (j := 1) (hi := rfl) dX3_mark_68 ?_
        refine zs_arr hO hf 1 dX3_mark_69 q2971 (Nat.le_of_ble_eq_true rfl) rfl ?_
        refine zr_iconst hO dX3_mark_72 ?_
        refine zr_iload_n hO (hl := rfl) (j := 2) (hi := rfl) dX3_mark_73 ?_
        refine zr_iadd hO dX3_mark_74 ?_
        refine zr_iload_n hO (hl := rfl) (j := 3) (hi := rfl) dX3_mark_75 ?_
        refine zr_if_ne hO ⟨by omega, by omega⟩ (tgt := 83) dX3_mark_76 rfl (fun c76 => ?_) (fun c76 => ?_)
        · skip
          refine zr_aload_n hO (hl := rfl) (j := 1) (hi := rfl) dX3_mark_83 ?_
          refine zr_iload_n hO (hl := rfl) (j := 3) (hi := rfl) dX3_mark_84 ?_
          refine zr_iconst hO dX3_mark_85 ?_
          refine zr_cVi hO zc_X3 zw_X3_129 (c_X3_of hI hf hg n 0 (by omega) (by omega)) dX3_mark_86 (zrd_of hf.1) rfl (rest := [zi (5 + m), zp (ad 1)]) rfl ⟨Nat.le_of_ble_eq_true rfl, Nat.le_of_ble_eq_true rfl⟩ (Nat.le_of_ble_eq_true rfl) (Nat.le_refl _) (Nat.le_refl _) (fun x h hx => ?_)
          obtain ⟨hx, ⟨r5a, r5b⟩, hf⟩ := hx
          have hx : x = gky g n := hx
          subst hx
          refine zs_ist hO hI hf 1 (f := g) (n := 2195) (j := (5 + m).toNat) dX3_mark_89 rfl rfl rfl hg (by omega) (by omega) rfl ⟨by omega, by omega⟩ (fun h hf => ?_)
          refine zr_iload_n hO (hl := rfl) (j := 0) (hi := rfl) dX3_mark_90 ?_
          exact zr_ireturn hO dX3_mark_91 ⟨(by rw [if_pos c30, if_neg (by omega)]), (zuA (zuS (zuA (zuS σ 0 (1 - (zB ((0 ≤ m ∧ m ≤ 9) ∧ (0 ≤ n ∧ n ≤ g 0))))) 3 (grem A g u)) 6 (gret u)) 1 (zset g ((5 + m).toNat) (gky g n))), (rfl), (by rw [if_pos c30, if_neg (by omega)]; exact zCo.eq (((((zCo.refl σ).uS (k := 0) (by decide) (1 - (zB ((0 ≤ m ∧ m ≤ 9) ∧ (0 ≤ n ∧ n ≤ g 0))))).cA 3 (grem A g u)).cS 6 (gret u)).cA 1 (zset g ((5 + m).toNat) (gky g n))) (fun k => by simp only [zuS, zuA, zset] <;> (repeat' split) <;> first | rfl | omega) (fun k hk => by simp only [zuS, zuA, zset] <;> (repeat' split) <;> first | rfl | omega)), hf⟩
        · skip
          refine zr_iconst hO dX3_mark_79 ?_
          refine zr_goto hO (tgt := 89) dX3_mark_80 rfl ?_
          refine zs_ist hO hI hf 1 (f := g) (n := 2195) (j := (5 + m).toNat) dX3_mark_89 rfl rfl rfl hg (by omega) (by omega) rfl ⟨by omega, by omega⟩ (fun h hf => ?_)
          refine zr_iload_n hO (hl := rfl) (j := 0) (hi := rfl) dX3_mark_90 ?_
          exact zr_ireturn hO dX3_mark_91 ⟨(by rw [if_pos c30, if_neg (by omega)]), (zuA (zuS (zuA (zuS σ 0 (1 - (zB ((0 ≤ m ∧ m ≤ 9) ∧ (0 ≤ n ∧ n ≤ g 0))))) 3 (grem A g u)) 6 (gret u)) 1 (zset g ((5 + m).toNat) (-1))), (rfl), (by rw [if_pos c30, if_pos (by omega)]; exact zCo.eq (((((zCo.refl σ).uS (k := 0) (by decide) (1 - (zB ((0 ≤ m ∧ m ≤ 9) ∧ (0 ≤ n ∧ n ≤ g 0))))).cA 3 (grem A g u)).cS 6 (gret u)).cA 1 (zset g ((5 + m).toNat) (-1))) (fun k => by simp only [zuS, zuA, zset] <;> (repeat' split) <;> first | rfl | omega) (fun k hk => by simp only [zuS, zuA, zset] <;> (repeat' split) <;> first | rfl | omega)), hf⟩
      · skip
        refine zr_iconst hO dX3_mark_51 ?_
        refine zr_goto hO (tgt := 67) dX3_mark_52 rfl ?_
        refine zr_istore_n hO (L' := [(3, zi 0), (0, zp r), (1, zi m), (2, zi n)]) (hi := rfl) dX3_mark_67 (Nat.le_of_ble_eq_true rfl) rfl ?_
        refine zr_aload_n hO (hl := rfl) (j := 1) (hi := rfl) dX3_mark_68 ?_
        refine zs_arr hO hf 1 dX3_mark_69 q2971 (Nat.le_of_ble_eq_true rfl) rfl ?_
        refine zr_iconst hO dX3_mark_72 ?_
        refine zr_iload_n hO (hl := rfl) (j := 2) (hi := rfl) dX3_mark_73 ?_
        refine zr_iadd hO dX3_mark_74 ?_
        refine zr_iload_n hO (hl := rfl) (j := 3) (hi := rfl) dX3_mark_75 ?_
        refine zr_if_ne hO ⟨by omega, by omega⟩ (tgt := 83) dX3_mark_76 rfl (fun c76 => ?_) (fun c76 => ?_)
        · skip
          refine zr_aload_n hO (hl := rfl) (j := 1) (hi := rfl) dX3_mark_83 ?_
          refine zr_iload_n hO (hl := rfl) (j := 3) (hi := rfl) dX3_mark_84 ?_
          refine zr_iconst hO dX3_mark_85 ?_
          refine zr_cVi hO zc_X3 zw_X3_129 (c_X3_of hI hf hg n 0 (by omega) (by omega)) dX3_mark_86 (zrd_of hf.1) rfl (rest := [zi (5 + m), zp (ad 1)]) rfl ⟨Nat.le_of_ble_eq_true rfl, Nat.le_of_ble_eq_true rfl⟩ (Nat.le_of_ble_eq_true rfl) (Nat.le_refl _) (Nat.le_refl _) (fun x h hx => ?_)
          obtain ⟨hx, ⟨r6a, r6b⟩, hf⟩ := hx
          have hx : x = gky g n := hx
          subst hx
          refine zs_ist hO hI hf 1 (f := g) (n := 2195) (j := (5 + m).toNat) dX3_mark_89 rfl rfl rfl hg (by omega) (by omega) rfl ⟨by omega, by omega⟩ (fun h hf => ?_)
          refine zr_iload_n hO (hl := rfl) (j := 0) (hi := rfl) dX3_mark_90 ?_
          exact zr_ireturn hO dX3_mark_91 ⟨(by rw [if_pos c30, if_pos (by omega)]), (zuA (zuS (zuA (zuS σ 0 (1 - (zB ((0 ≤ m ∧ m ≤ 9) ∧ (0 ≤ n ∧ n ≤ g 0))))) 3 (grem A g u)) 6 (gret u)) 1 (zset g ((5 + m).toNat) (gky g n))), (rfl), (by rw [if_pos c30, if_neg (by omega)]; exact zCo.eq (((((zCo.refl σ).uS (k := 0) (by decide) (1 - (zB ((0 ≤ m ∧ m ≤ 9) ∧ (0 ≤ n ∧ n ≤ g 0))))).cA 3 (grem A g u)).cS 6 (gret u)).cA 1 (zset g ((5 + m).toNat) (gky g n))) (fun k => by simp only [zuS, zuA, zset] <;> (repeat' split) <;> first | rfl | omega) (fun k hk => by simp only [zuS, zuA, zset] <;> (repeat' split) <;> first | rfl | omega)), hf⟩
        · skip
          refine zr_iconst hO dX3_mark_79 ?_
          refine zr_goto hO (tgt := 89) dX3_mark_80 rfl ?_
          refine zs_ist hO hI hf 1 (f := g) (n := 2195) (j := (5 + m).toNat) dX3_mark_89 rfl rfl rfl hg (by omega) (by omega) rfl ⟨by omega, by omega⟩ (fun h hf => ?_)
          refine zr_iload_n hO (hl := rfl) (j := 0) (hi := rfl) dX3_mark_90 ?_
          exact zr_ireturn hO dX3_mark_91 ⟨(by rw [if_pos c30, if_pos (by omega)]), (zuA (zuS (zuA (zuS σ 0 (1 - (zB ((0 ≤ m ∧ m ≤ 9) ∧ (0 ≤ n ∧ n ≤ g 0))))) 3 (grem A g u)) 6 (gret u)) 1 (zset g ((5 + m).toNat) (-1))), (rfl), (by rw [if_pos c30, if_pos (by omega)]; exact zCo.eq (((((zCo.refl σ).uS (k := 0) (by decide) (1 - (zB ((0 ≤ m ∧ m ≤ 9) ∧ (0 ≤ n ∧ n ≤ g 0))))).cA 3 (grem A g u)).cS 6 (gret u)).cA 1 (zset g ((5 + m).toNat) (-1))) (fun k => by simp only [zuS, zuA, zset] <;> (repeat' split) <;> first | rfl | omega) (fun k hk => by simp only [zuS, zuA, zset] <;> (repeat' split) <;> first | rfl | omega)), hf⟩
    · skip
      have c30 := zB_eq c30
      refine zr_iconst hO dX3_mark_33 ?_
      exact zr_ireturn hO dX3_mark_34 ⟨(by rw [if_neg c30]), (zuS σ 0 (1 - (zB ((0 ≤ m ∧ m ≤ 9) ∧ (0 ≤ n ∧ n ≤ g 0))))), (rfl), (by rw [if_neg c30]; exact ((zCo.refl σ).uS (k := 0) (by decide) (1 - (zB ((0 ≤ m ∧ m ≤ 9) ∧ (0 ≤ n ∧ n ≤ g 0)))))), hf⟩
  refine zr_aload_n hO (hl := rfl) (j := 0) (hi := rfl) dX3_mark_0 ?_
  refine zr_iload_n hO (hl := rfl) (j := 1) (hi := rfl) dX3_mark_1 ?_
  refine zr_cSi hO zw_X3_245 (c_X3_isMarker m (⟨by omega, by omega⟩)) dX3_mark_2 rfl (rest := [zp r]) rfl ⟨Nat.le_of_ble_eq_true rfl, Nat.le_of_ble_eq_true rfl⟩ (Nat.le_of_ble_eq_true rfl) (Nat.le_refl _) (Nat.le_refl _) (fun x h hx => ?_)
  obtain ⟨hx, rfl⟩ := hx
  have hx : x = zB (0 ≤ m ∧ m ≤ 9) := hx
  subst hx
  refine zr_if_eq hO (zR_B _) (tgt := 26) dX3_mark_5 rfl (fun c5 => ?_) (fun c5 => ?_)
  · skip
    have c5 := zB_eq c5
    refine zr_iconst hO dX3_mark_26 ?_
    exact hj27 0 ((zB_f (by omega)).symm) h hf
  · skip
    have c5 := zB_ne c5
    refine zr_iload_n hO (hl := rfl) (j := 2) (hi := rfl) dX3_mark_8 ?_
    refine zr_iconst hO dX3_mark_9 ?_
    refine zr_aload_n hO (hl := rfl) (j := 0) (hi := rfl) dX3_mark_10 ?_
    refine zs_arr hO hf 1 dX3_mark_11 q2971 (Nat.le_of_ble_eq_true rfl) rfl ?_
    refine zr_iconst hO dX3_mark_14 ?_
    refine zs_ild hO hf 1 (f := g) (n := 2195) (j := 0) dX3_mark_15 rfl rfl rfl hg (by omega) (by omega) rfl (fun ⟨r7a, r7b⟩ => ?_)
    refine zr_cSi hO zw_X3_95 (c_X3_in n 0 (g 0) (⟨by omega, by omega⟩) (⟨by omega, by omega⟩) (⟨by omega, by omega⟩)) dX3_mark_16 rfl (rest := [zp r]) rfl ⟨Nat.le_of_ble_eq_true rfl, Nat.le_of_ble_eq_true rfl⟩ (Nat.le_of_ble_eq_true rfl) (Nat.le_refl _) (Nat.le_refl _) (fun x h hx => ?_)
    obtain ⟨hx, rfl⟩ := hx
    have hx : x = zB (0 ≤ n ∧ n ≤ (g 0)) := hx
    subst hx
    refine zr_if_eq hO (zR_B _) (tgt := 26) dX3_mark_19 rfl (fun c19 => ?_) (fun c19 => ?_)
    · skip
      have c19 := zB_eq c19
      refine zr_iconst hO dX3_mark_26 ?_
      exact hj27 0 ((zB_f (by omega)).symm) h hf
    · skip
      have c19 := zB_ne c19
      refine zr_iconst hO dX3_mark_22 ?_
      refine zr_goto hO (tgt := 27) dX3_mark_23 rfl ?_
      exact hj27 1 ((zB_t (by omega)).symm) h hf
theorem c_X3_close {G : zG} {r : Nat} {ad : Nat → Nat} {h0 : zHp} (hI : zRI r ad) {σ : zS} {h : zHp} (hf : zRf r ad σ h0 h) {g : Nat → Int} (hg : σ.2 1 = g) {b : Nat → Int} (hb : σ.2 7 = b) {A : Nat → Int} (hA : σ.2 3 = A) {o : Nat → Int} (ho : σ.2 27 = o) {m9 : Nat → Int} (hm9 : σ.2 28 = m9) {q : Int} (hq : σ.1 8 = q) {u : Int} (hu : σ.1 6 = u) (n : Int) (f : Int) (hn : zR n) (hf1 : f = 0 ∨ f = 1) (hu1 : 0 ≤ u) (hu2 : u ≤ 8) (hq1 : 0 ≤ q) (hq2 : q ≤ 700) (hw : zwf g) : zC G yX3_close cX3_close 4 (some Jvm.ClassFile.FieldType.boolean) 2 45 0 0 [zp r, zi n, zi f] h (zPi (fun x h' => x = (if 1 ≤ n ∧ n ≤ g 0 then zB (gcl g n = 1) else 0) ∧ ∃ τ : zS, τ.1 0 = (1 - zB (1 ≤ n ∧ n ≤ g 0)) ∧ zCo (if 1 ≤ n ∧ n ≤ g 0 then zuA (zuS (zuA σ 3 (grem A g u)) 6 (gret u)) 1 (zset g (35 + 27 * (n - 1) + 1).toNat f) else σ) τ ∧ zRf r ad τ h0 h') zNo) := by
  refine zC.of zpn_X3 (Nat.le_of_ble_eq_true rfl) (L := [(0, zp r), (1, zi n), (2, zi f)]) rfl (fun K hO => ?_)
  obtain ⟨w1, w2, w3⟩ := id hw
  obtain ⟨hna, hnb⟩ := hn
  refine zr_aload_n hO (hl := rfl) (j := 0) (hi := rfl) dX3_close_0 ?_
  refine zr_aload_n hO (hl := rfl) (j := 0) (hi := rfl) dX3_close_1 ?_
  refine zr_iload_n hO (hl := rfl) (j := 1) (hi := rfl) dX3_close_2 ?_
  refine zr_cVi hO zc_X3 zw_X3_167 (c_X3_isLine hI hf hg n (⟨by omega, by omega⟩)) dX3_close_3 (zrd_of hf.1) rfl (rest := [zp r]) rfl ⟨Nat.le_of_ble_eq_true rfl, Nat.le_of_ble_eq_true rfl⟩ (Nat.le_of_ble_eq_true rfl) (Nat.le_refl _) (Nat.le_refl _) (fun x h hx => ?_)
  obtain ⟨hx, hf⟩ := hx
  have hx : x = zB (1 ≤ n ∧ n ≤ g 0) := hx
  subst hx
  refine zr_cVi hO zc_X3 zw_X3_111 (c_X3_may hI hf (zB (1 ≤ n ∧ n ≤ g 0)) (zB_01 _)) dX3_close_6 (zrd_of hf.1) rfl (rest := []) rfl ⟨Nat.le_of_ble_eq_true rfl, Nat.le_of_ble_eq_true rfl⟩ (Nat.le_of_ble_eq_true rfl) (Nat.le_refl _) (Nat.le_refl _) (fun x h hx => ?_)
  obtain ⟨hx, hf⟩ := hx
  have hx : x = (zB (1 ≤ n ∧ n ≤ g 0)) := hx
  subst hx
  have hf : zRf r ad (zuS σ 0 (1 - (zB (1 ≤ n ∧ n ≤ g 0)))) h0 h := hf
  refine zr_if_ne hO (zR_B _) (tgt := 14) dX3_close_9 rfl (fun c9 => ?_) (fun c9 => ?_)
  · skip
    have c9 := zB_ne c9
    refine zr_aload_n hO (hl := rfl) (j := 0) (hi := rfl) dX3_close_14 ?_
    refine zr_cVv hO zc_X3 zw_X3_294 (c_X3_remembers hI hf hg hA hu  (by omega) (by omega)) dX3_close_15 (zrd_of hf.1) rfl (rest := []) rfl ⟨Nat.le_of_ble_eq_true rfl, Nat.le_of_ble_eq_true rfl⟩ (Nat.le_of_ble_eq_true rfl) (Nat.le_refl _) (Nat.le_refl _) (fun h hx => ?_)
    have hf : zRf r ad (zuS (zuA (zuS σ 0 (1 - (zB (1 ≤ n ∧ n ≤ g 0)))) 3 (grem A g u)) 6 (gret u)) h0 h := hx
    clear hx
    have hj33 : ∀ (d : Int) (hd : d = zB (gcl g n = 1)) (h : zHp) (hf : zRf r ad (zuS (zuA (zuS σ 0 (1 - (zB (1 ≤ n ∧ n ≤ g 0)))) 3 (grem A g u)) 6 (gret u)) h0 h), zV G K 0 0 h 33 [(0, zp r), (1, zi n), (2, zi f)] [zi d] := by
      intro d hd h hf
      have hd1 : d = 0 ∨ d = 1 := by rw [hd]; exact zB_01 _
      refine zr_istore_n hO (L' := [(3, zi d), (0, zp r), (1, zi n), (2, zi f)]) (hi := rfl) dX3_close_33 (Nat.le_of_ble_eq_true rfl) rfl ?_
      refine zr_aload_n hO (hl := rfl) (j := 1) (hi := rfl) dX3_close_34 ?_
      refine zs_arr hO hf 1 dX3_close_35 q2971 (Nat.le_of_ble_eq_true rfl) rfl ?_
      refine zr_iload_n hO (hl := rfl) (j := 2) (hi := rfl) dX3_close_38 ?_
      refine zr_cSi hO zw_X3_125 (c_X3_lineAt n) dX3_close_39 rfl (rest := [zp (ad 1)]) rfl ⟨Nat.le_of_ble_eq_true rfl, Nat.le_of_ble_eq_true rfl⟩ (Nat.le_of_ble_eq_true rfl) (Nat.le_refl _) (Nat.le_refl _) (fun x h hx => ?_)
      obtain ⟨hx, rfl⟩ := hx
      have hx : x = 35 + 27 * (n - 1) := hx
      subst hx
      refine zr_iconst hO dX3_close_42 ?_
      refine zr_iadd hO dX3_close_43 ?_
      refine zr_iload_n hO (hl := rfl) (j := 3) (hi := rfl) dX3_close_44 ?_
      refine zr_if_eq hO ⟨by omega, by omega⟩ (tgt := 52) dX3_close_45 rfl (fun c45 => ?_) (fun c45 => ?_)
      · skip
        refine zr_iconst hO dX3_close_52 ?_
        refine zs_ist hO hI hf 1 (f := g) (n := 2195) (j := ((35 + 27 * (n - 1)) + 1).toNat) dX3_close_53 rfl rfl rfl hg (by omega) (by omega) rfl ⟨by omega, by omega⟩ (fun h hf => ?_)
        refine zr_iload_n hO (hl := rfl) (j := 0) (hi := rfl) dX3_close_54 ?_
        exact zr_zreturn hO (znz hd1) dX3_close_55 ⟨(by rw [if_pos c9, hd]), (zuA (zuS (zuA (zuS σ 0 (1 - (zB (1 ≤ n ∧ n ≤ g 0)))) 3 (grem A g u)) 6 (gret u)) 1 (zset g (((35 + 27 * (n - 1)) + 1).toNat) 0)), (rfl), (by rw [if_pos c9, show f = 0 by omega]; exact zCo.eq (((((zCo.refl σ).uS (k := 0) (by decide) (1 - (zB (1 ≤ n ∧ n ≤ g 0)))).cA 3 (grem A g u)).cS 6 (gret u)).cA 1 (zset g (((35 + 27 * (n - 1)) + 1).toNat) 0)) (fun k => by simp only [zuS, zuA, zset] <;> (repeat' split) <;> first | rfl | omega) (fun k hk => by simp only [zuS, zuA, zset] <;> (repeat' split) <;> first | rfl | omega)), hf⟩
      · skip
        refine zr_iconst hO dX3_close_48 ?_
        refine zr_goto hO (tgt := 53) dX3_close_49 rfl ?_
        refine zs_ist hO hI hf 1 (f := g) (n := 2195) (j := ((35 + 27 * (n - 1)) + 1).toNat) dX3_close_53 rfl rfl rfl hg (by omega) (by omega) rfl ⟨by omega, by omega⟩ (fun h hf => ?_)
        refine zr_iload_n hO (hl := rfl) (j := 0) (hi := rfl) dX3_close_54 ?_
        exact zr_zreturn hO (znz hd1) dX3_close_55 ⟨(by rw [if_pos c9, hd]), (zuA (zuS (zuA (zuS σ 0 (1 - (zB (1 ≤ n ∧ n ≤ g 0)))) 3 (grem A g u)) 6 (gret u)) 1 (zset g (((35 + 27 * (n - 1)) + 1).toNat) 1)), (rfl), (by rw [if_pos c9, show f = 1 by omega]; exact zCo.eq (((((zCo.refl σ).uS (k := 0) (by decide) (1 - (zB (1 ≤ n ∧ n ≤ g 0)))).cA 3 (grem A g u)).cS 6 (gret u)).cA 1 (zset g (((35 + 27 * (n - 1)) + 1).toNat) 1)) (fun k => by simp only [zuS, zuA, zset] <;> (repeat' split) <;> first | rfl | omega) (fun k hk => by simp only [zuS, zuA, zset] <;> (repeat' split) <;> first | rfl | omega)), hf⟩
    refine zr_aload_n hO (hl := rfl) (j := 0) (hi := rfl) dX3_close_18 ?_
    refine zr_iload_n hO (hl := rfl) (j := 1) (hi := rfl) dX3_close_19 ?_
    refine zr_iconst hO dX3_close_20 ?_
    refine zr_cVi hO zc_X3 zw_X3_129 (c_X3_of hI hf hg n 1 (by omega) (by omega)) dX3_close_21 (zrd_of hf.1) rfl (rest := []) rfl ⟨Nat.le_of_ble_eq_true rfl, Nat.le_of_ble_eq_true rfl⟩ (Nat.le_of_ble_eq_true rfl) (Nat.le_refl _) (Nat.le_refl _) (fun x h hx => ?_)
    obtain ⟨hx, ⟨r3a, r3b⟩, hf⟩ := hx
    have hx : x = gcl g n := hx
    subst hx
    refine zr_iconst hO dX3_close_24 ?_
    refine zr_icmp_ne hO ⟨by omega, by omega⟩ ⟨by omega, by omega⟩ (tgt := 32) dX3_close_25 rfl (fun c25 => ?_) (fun c25 => ?_)
    · skip
      refine zr_iconst hO dX3_close_32 ?_
      exact hj33 0 ((zB_f (by omega)).symm) h hf
    · skip
      refine zr_iconst hO dX3_close_28 ?_
      refine zr_goto hO (tgt := 33) dX3_close_29 rfl ?_
      exact hj33 1 ((zB_t (by omega)).symm) h hf
  · skip
    have c9 := zB_eq c9
    refine zr_iconst hO dX3_close_12 ?_
    exact zr_zreturn hO (znz (Or.inl rfl)) dX3_close_13 ⟨(by rw [if_neg c9]), (zuS σ 0 (1 - (zB (1 ≤ n ∧ n ≤ g 0)))), (rfl), (by rw [if_neg c9]; exact ((zCo.refl σ).uS (k := 0) (by decide) (1 - (zB (1 ≤ n ∧ n ≤ g 0))))), hf⟩
theorem c_X3_move {G : zG} {r : Nat} {ad : Nat → Nat} {h0 : zHp} (hI : zRI r ad) {σ : zS} {h : zHp} (hf : zRf r ad σ h0 h) {g : Nat → Int} (hg : σ.2 1 = g) {b : Nat → Int} (hb : σ.2 7 = b) {A : Nat → Int} (hA : σ.2 3 = A) {o : Nat → Int} (ho : σ.2 27 = o) {m9 : Nat → Int} (hm9 : σ.2 28 = m9) {q : Int} (hq : σ.1 8 = q) {u : Int} (hu : σ.1 6 = u) (f : Int) (t : Int) (b9 : Int) (hf9 : zR f) (ht9 : zR t) (hb9 : zR b9) (hu1 : 0 ≤ u) (hu2 : u ≤ 8) (hq1 : 0 ≤ q) (hq2 : q ≤ 700) (hw : zwf g) : zC G yX3_move cX3_move 4 (some Jvm.ClassFile.FieldType.int) 4 90 0 0 [zp r, zi f, zi t, zi b9] h (zPi (fun x h' => x = (if ((1 ≤ f ∧ f ≤ g 0) ∧ (1 ≤ t ∧ t ≤ g 0) ∧ (1 ≤ b9 ∧ b9 ≤ g 0 + 1)) ∧ (f ≤ t ∧ (b9 ≤ f ∨ t < b9)) then (if b9 ≤ f then b9 else b9 - (t - f + 1)) else 0) ∧ ∃ τ : zS, τ.1 0 = (if zB ((1 ≤ f ∧ f ≤ g 0) ∧ (1 ≤ t ∧ t ≤ g 0) ∧ (1 ≤ b9 ∧ b9 ≤ g 0 + 1)) = 0 then 1 else 2 - 2 * zB (f ≤ t ∧ (b9 ≤ f ∨ t < b9))) ∧ zCo (if ((1 ≤ f ∧ f ≤ g 0) ∧ (1 ≤ t ∧ t ≤ g 0) ∧ (1 ≤ b9 ∧ b9 ≤ g 0 + 1)) ∧ (f ≤ t ∧ (b9 ≤ f ∨ t < b9)) then (if b9 < f ∨ t + 1 < b9 then zuA (zuS (zuA σ 3 (grem A g u)) 6 (gret u)) 1 (garr g (ggo (g 0) f t b9 o) (27 * g 0)) else zuS (zuA σ 3 (grem A g u)) 6 (gret u)) else σ) τ ∧ zRf r ad τ h0 h') zNo) := by
  refine zC.of zpn_X3 (Nat.le_of_ble_eq_true rfl) (L := [(0, zp r), (1, zi f), (2, zi t), (3, zi b9)]) rfl (fun K hO => ?_)
  obtain ⟨w1, w2, w3⟩ := id hw
  obtain ⟨hf9a, hf9b⟩ := hf9
  obtain ⟨ht9a, ht9b⟩ := ht9
  obtain ⟨hb9a, hb9b⟩ := hb9
  have hj38 : ∀ (b : Int) (hb : b = zB ((1 ≤ f ∧ f ≤ g 0) ∧ (1 ≤ t ∧ t ≤ g 0) ∧ (1 ≤ b9 ∧ b9 ≤ g 0 + 1))) (h : zHp) (hf : zRf r ad σ h0 h), zV G K 0 0 h 38 [(0, zp r), (1, zi f), (2, zi t), (3, zi b9)] [zi b, zp r] := by
    intro b hb h hf
    subst hb
    have hj58 : ∀ (d : Int) (hd : d = zB (f ≤ t ∧ (b9 ≤ f ∨ t < b9))) (h : zHp) (hf : zRf r ad σ h0 h), zV G K 0 0 h 58 [(0, zp r), (1, zi f), (2, zi t), (3, zi b9)] [zi d, zi (zB ((1 ≤ f ∧ f ≤ g 0) ∧ (1 ≤ t ∧ t ≤ g 0) ∧ (1 ≤ b9 ∧ b9 ≤ g 0 + 1))), zp r] := by
      intro d hd h hf
      subst hd
      refine zr_cVi hO zc_X3 zw_X3_170 (c_X3_mayBoth hI hf (zB ((1 ≤ f ∧ f ≤ g 0) ∧ (1 ≤ t ∧ t ≤ g 0) ∧ (1 ≤ b9 ∧ b9 ≤ g 0 + 1))) (zB (f ≤ t ∧ (b9 ≤ f ∨ t < b9))) (zB_01 _) (zB_01 _)) dX3_move_58 (zrd_of hf.1) rfl (rest := []) rfl ⟨Nat.le_of_ble_eq_true rfl, Nat.le_of_ble_eq_true rfl⟩ (Nat.le_of_ble_eq_true rfl) (Nat.le_refl _) (Nat.le_refl _) (fun x h hx => ?_)
      obtain ⟨hx, hf⟩ := hx
      have hx : x = zB ((zB ((1 ≤ f ∧ f ≤ g 0) ∧ (1 ≤ t ∧ t ≤ g 0) ∧ (1 ≤ b9 ∧ b9 ≤ g 0 + 1))) = 1 ∧ (zB (f ≤ t ∧ (b9 ≤ f ∨ t < b9))) = 1) := hx
      subst hx
      have hf : zRf r ad (zuS σ 0 (if (zB ((1 ≤ f ∧ f ≤ g 0) ∧ (1 ≤ t ∧ t ≤ g 0) ∧ (1 ≤ b9 ∧ b9 ≤ g 0 + 1))) = 0 then 1 else 2 - 2 * (zB (f ≤ t ∧ (b9 ≤ f ∨ t < b9))))) h0 h := hf
      rw [show (zB ((zB ((1 ≤ f ∧ f ≤ g 0) ∧ (1 ≤ t ∧ t ≤ g 0) ∧ (1 ≤ b9 ∧ b9 ≤ g 0 + 1))) = 1 ∧ (zB (f ≤ t ∧ (b9 ≤ f ∨ t < b9))) = 1)) = zB (((1 ≤ f ∧ f ≤ g 0) ∧ (1 ≤ t ∧ t ≤ g 0) ∧ (1 ≤ b9 ∧ b9 ≤ g 0 + 1)) ∧ (f ≤ t ∧ (b9 ≤ f ∨ t < b9))) from zB_and _ _]
      refine zr_if_ne hO (zR_B _) (tgt := 66) dX3_move_61 rfl (fun c61 => ?_) (fun c61 => ?_)
      · skip
        have c61 := zB_ne c61
        refine zr_aload_n hO (hl := rfl) (j := 0) (hi := rfl) dX3_move_66 ?_
        refine zr_cVv hO zc_X3 zw_X3_294 (c_X3_remembers hI hf hg hA hu  (by omega) (by omega)) dX3_move_67 (zrd_of hf.1) rfl (rest := []) rfl ⟨Nat.le_of_ble_eq_true rfl, Nat.le_of_ble_eq_true rfl⟩ (Nat.le_of_ble_eq_true rfl) (Nat.le_refl _) (Nat.le_refl _) (fun h hx => ?_)
        have hf : zRf r ad (zuS (zuA (zuS σ 0 (if (zB ((1 ≤ f ∧ f ≤ g 0) ∧ (1 ≤ t ∧ t ≤ g 0) ∧ (1 ≤ b9 ∧ b9 ≤ g 0 + 1))) = 0 then 1 else 2 - 2 * (zB (f ≤ t ∧ (b9 ≤ f ∨ t < b9))))) 3 (grem A g u)) 6 (gret u)) h0 h := hx
        clear hx
        refine zr_iload_n hO (hl := rfl) (j := 3) (hi := rfl) dX3_move_70 ?_
        refine zr_iload_n hO (hl := rfl) (j := 1) (hi := rfl) dX3_move_71 ?_
        refine zr_icmp_lt hO ⟨by omega, by omega⟩ ⟨by omega, by omega⟩ (tgt := 82) dX3_move_72 rfl (fun c72 => ?_) (fun c72 => ?_)
        · skip
          refine zr_aload_n hO (hl := rfl) (j := 0) (hi := rfl) dX3_move_82 ?_
          refine zr_iload_n hO (hl := rfl) (j := 1) (hi := rfl) dX3_move_83 ?_
          refine zr_iload_n hO (hl := rfl) (j := 2) (hi := rfl) dX3_move_84 ?_
          refine zr_iload_n hO (hl := rfl) (j := 3) (hi := rfl) dX3_move_85 ?_
          refine zr_cVv hO zc_X3 zw_X3_287 (c_X3_goes hI hf hg ho hm9 f t b9 (by omega) (by omega) (by omega) (by omega) (by omega) (by omega) (by omega)) dX3_move_86 (zrd_of hf.1) rfl (rest := []) rfl ⟨Nat.le_of_ble_eq_true rfl, Nat.le_of_ble_eq_true rfl⟩ (Nat.le_of_ble_eq_true rfl) (Nat.le_refl _) (Nat.le_refl _) (fun h hx => ?_)
          have hf : zRf r ad (zuA (zuA (zuA (zuS (zuA (zuS σ 0 (if (zB ((1 ≤ f ∧ f ≤ g 0) ∧ (1 ≤ t ∧ t ≤ g 0) ∧ (1 ≤ b9 ∧ b9 ≤ g 0 + 1))) = 0 then 1 else 2 - 2 * (zB (f ≤ t ∧ (b9 ≤ f ∨ t < b9))))) 3 (grem A g u)) 6 (gret u)) 27 (ggo (g 0) f t b9 o)) 28 (gmvd g (ggo (g 0) f t b9 o) m9 (27 * g 0))) 1 (garr g (ggo (g 0) f t b9 o) (27 * g 0))) h0 h := hx
          clear hx
          refine zr_iload_n hO (hl := rfl) (j := 3) (hi := rfl) dX3_move_89 ?_
          refine zr_iload_n hO (hl := rfl) (j := 1) (hi := rfl) dX3_move_90 ?_
          refine zr_icmp_gt hO ⟨by omega, by omega⟩ ⟨by omega, by omega⟩ (tgt := 98) dX3_move_91 rfl (fun c91 => ?_) (fun c91 => ?_)
          · skip
            refine zr_iload_n hO (hl := rfl) (j := 3) (hi := rfl) dX3_move_98 ?_
            refine zr_iload_n hO (hl := rfl) (j := 2) (hi := rfl) dX3_move_99 ?_
            refine zr_iload_n hO (hl := rfl) (j := 1) (hi := rfl) dX3_move_100 ?_
            refine zr_isub hO dX3_move_101 ?_
            refine zr_iconst hO dX3_move_102 ?_
            refine zr_iadd hO dX3_move_103 ?_
            refine zr_isub hO dX3_move_104 ?_
            exact zr_ireturn hO dX3_move_105 ⟨(by rw [if_pos c61, if_neg (by omega)]), (zuA (zuA (zuA (zuS (zuA (zuS σ 0 (if (zB ((1 ≤ f ∧ f ≤ g 0) ∧ (1 ≤ t ∧ t ≤ g 0) ∧ (1 ≤ b9 ∧ b9 ≤ g 0 + 1))) = 0 then 1 else 2 - 2 * (zB (f ≤ t ∧ (b9 ≤ f ∨ t < b9))))) 3 (grem A g u)) 6 (gret u)) 27 (ggo (g 0) f t b9 o)) 28 (gmvd g (ggo (g 0) f t b9 o) m9 (27 * g 0))) 1 (garr g (ggo (g 0) f t b9 o) (27 * g 0))), (rfl), (by rw [if_pos c61, if_pos (by omega)]; exact zCo.eq (((((((zCo.refl σ).uS (k := 0) (by decide) (if (zB ((1 ≤ f ∧ f ≤ g 0) ∧ (1 ≤ t ∧ t ≤ g 0) ∧ (1 ≤ b9 ∧ b9 ≤ g 0 + 1))) = 0 then 1 else 2 - 2 * (zB (f ≤ t ∧ (b9 ≤ f ∨ t < b9))))).cA 3 (grem A g u)).cS 6 (gret u)).uA (k := 27) rfl (ggo (g 0) f t b9 o)).uA (k := 28) rfl (gmvd g (ggo (g 0) f t b9 o) m9 (27 * g 0))).cA 1 (garr g (ggo (g 0) f t b9 o) (27 * g 0))) (fun k => by simp only [zuS, zuA, zset] <;> (repeat' split) <;> first | rfl | omega) (fun k hk => by simp only [zuS, zuA, zset] <;> (repeat' split) <;> first | rfl | omega)), hf⟩
          · skip
            refine zr_iload_n hO (hl := rfl) (j := 3) (hi := rfl) dX3_move_94 ?_
            refine zr_goto hO (tgt := 105) dX3_move_95 rfl ?_
            exact zr_ireturn hO dX3_move_105 ⟨(by rw [if_pos c61, if_pos (by omega)]), (zuA (zuA (zuA (zuS (zuA (zuS σ 0 (if (zB ((1 ≤ f ∧ f ≤ g 0) ∧ (1 ≤ t ∧ t ≤ g 0) ∧ (1 ≤ b9 ∧ b9 ≤ g 0 + 1))) = 0 then 1 else 2 - 2 * (zB (f ≤ t ∧ (b9 ≤ f ∨ t < b9))))) 3 (grem A g u)) 6 (gret u)) 27 (ggo (g 0) f t b9 o)) 28 (gmvd g (ggo (g 0) f t b9 o) m9 (27 * g 0))) 1 (garr g (ggo (g 0) f t b9 o) (27 * g 0))), (rfl), (by rw [if_pos c61, if_pos (by omega)]; exact zCo.eq (((((((zCo.refl σ).uS (k := 0) (by decide) (if (zB ((1 ≤ f ∧ f ≤ g 0) ∧ (1 ≤ t ∧ t ≤ g 0) ∧ (1 ≤ b9 ∧ b9 ≤ g 0 + 1))) = 0 then 1 else 2 - 2 * (zB (f ≤ t ∧ (b9 ≤ f ∨ t < b9))))).cA 3 (grem A g u)).cS 6 (gret u)).uA (k := 27) rfl (ggo (g 0) f t b9 o)).uA (k := 28) rfl (gmvd g (ggo (g 0) f t b9 o) m9 (27 * g 0))).cA 1 (garr g (ggo (g 0) f t b9 o) (27 * g 0))) (fun k => by simp only [zuS, zuA, zset] <;> (repeat' split) <;> first | rfl | omega) (fun k hk => by simp only [zuS, zuA, zset] <;> (repeat' split) <;> first | rfl | omega)), hf⟩
        · skip
          refine zr_iload_n hO (hl := rfl) (j := 3) (hi := rfl) dX3_move_75 ?_
          refine zr_iload_n hO (hl := rfl) (j := 2) (hi := rfl) dX3_move_76 ?_
          refine zr_iconst hO dX3_move_77 ?_
          refine zr_iadd hO dX3_move_78 ?_
          refine zr_icmp_le hO ⟨by omega, by omega⟩ ⟨by omega, by omega⟩ (tgt := 89) dX3_move_79 rfl (fun c79 => ?_) (fun c79 => ?_)
          · skip
            refine zr_iload_n hO (hl := rfl) (j := 3) (hi := rfl) dX3_move_89 ?_
            refine zr_iload_n hO (hl := rfl) (j := 1) (hi := rfl) dX3_move_90 ?_
            refine zr_icmp_gt hO ⟨by omega, by omega⟩ ⟨by omega, by omega⟩ (tgt := 98) dX3_move_91 rfl (fun c91 => ?_) (fun c91 => ?_)
            · skip
              refine zr_iload_n hO (hl := rfl) (j := 3) (hi := rfl) dX3_move_98 ?_
              refine zr_iload_n hO (hl := rfl) (j := 2) (hi := rfl) dX3_move_99 ?_
              refine zr_iload_n hO (hl := rfl) (j := 1) (hi := rfl) dX3_move_100 ?_
              refine zr_isub hO dX3_move_101 ?_
              refine zr_iconst hO dX3_move_102 ?_
              refine zr_iadd hO dX3_move_103 ?_
              refine zr_isub hO dX3_move_104 ?_
              exact zr_ireturn hO dX3_move_105 ⟨(by rw [if_pos c61, if_neg (by omega)]), (zuS (zuA (zuS σ 0 (if (zB ((1 ≤ f ∧ f ≤ g 0) ∧ (1 ≤ t ∧ t ≤ g 0) ∧ (1 ≤ b9 ∧ b9 ≤ g 0 + 1))) = 0 then 1 else 2 - 2 * (zB (f ≤ t ∧ (b9 ≤ f ∨ t < b9))))) 3 (grem A g u)) 6 (gret u)), (rfl), (by rw [if_pos c61, if_neg (by omega)]; exact zCo.eq ((((zCo.refl σ).uS (k := 0) (by decide) (if (zB ((1 ≤ f ∧ f ≤ g 0) ∧ (1 ≤ t ∧ t ≤ g 0) ∧ (1 ≤ b9 ∧ b9 ≤ g 0 + 1))) = 0 then 1 else 2 - 2 * (zB (f ≤ t ∧ (b9 ≤ f ∨ t < b9))))).cA 3 (grem A g u)).cS 6 (gret u)) (fun k => by simp only [zuS, zuA, zset] <;> (repeat' split) <;> first | rfl | omega) (fun k hk => by simp only [zuS, zuA, zset] <;> (repeat' split) <;> first | rfl | omega)), hf⟩
            · skip
              refine zr_iload_n hO (hl := rfl) (j := 3) (hi := rfl) dX3_move_94 ?_
              refine zr_goto hO (tgt := 105) dX3_move_95 rfl ?_
              exact zr_ireturn hO dX3_move_105 ⟨(by rw [if_pos c61, if_pos (by omega)]), (zuS (zuA (zuS σ 0 (if (zB ((1 ≤ f ∧ f ≤ g 0) ∧ (1 ≤ t ∧ t ≤ g 0) ∧ (1 ≤ b9 ∧ b9 ≤ g 0 + 1))) = 0 then 1 else 2 - 2 * (zB (f ≤ t ∧ (b9 ≤ f ∨ t < b9))))) 3 (grem A g u)) 6 (gret u)), (rfl), (by rw [if_pos c61, if_neg (by omega)]; exact zCo.eq ((((zCo.refl σ).uS (k := 0) (by decide) (if (zB ((1 ≤ f ∧ f ≤ g 0) ∧ (1 ≤ t ∧ t ≤ g 0) ∧ (1 ≤ b9 ∧ b9 ≤ g 0 + 1))) = 0 then 1 else 2 - 2 * (zB (f ≤ t ∧ (b9 ≤ f ∨ t < b9))))).cA 3 (grem A g u)).cS 6 (gret u)) (fun k => by simp only [zuS, zuA, zset] <;> (repeat' split) <;> first | rfl | omega) (fun k hk => by simp only [zuS, zuA, zset] <;> (repeat' split) <;> first | rfl | omega)), hf⟩
          · skip
            refine zr_aload_n hO (hl := rfl) (j := 0) (hi := rfl) dX3_move_82 ?_
            refine zr_iload_n hO (hl := rfl) (j := 1) (hi := rfl) dX3_move_83 ?_
            refine zr_iload_n hO (hl := rfl) (j := 2) (hi := rfl) dX3_move_84 ?_
            refine zr_iload_n hO (hl := rfl) (j := 3) (hi := rfl) dX3_move_85 ?_
            refine zr_cVv hO zc_X3 zw_X3_287 (c_X3_goes hI hf hg ho hm9 f t b9 (by omega) (by omega) (by omega) (by omega) (by omega) (by omega) (by omega)) dX3_move_86 (zrd_of hf.1) rfl (rest := []) rfl ⟨Nat.le_of_ble_eq_true rfl, Nat.le_of_ble_eq_true rfl⟩ (Nat.le_of_ble_eq_true rfl) (Nat.le_refl _) (Nat.le_refl _) (fun h hx => ?_)
            have hf : zRf r ad (zuA (zuA (zuA (zuS (zuA (zuS σ 0 (if (zB ((1 ≤ f ∧ f ≤ g 0) ∧ (1 ≤ t ∧ t ≤ g 0) ∧ (1 ≤ b9 ∧ b9 ≤ g 0 + 1))) = 0 then 1 else 2 - 2 * (zB (f ≤ t ∧ (b9 ≤ f ∨ t < b9))))) 3 (grem A g u)) 6 (gret u)) 27 (ggo (g 0) f t b9 o)) 28 (gmvd g (ggo (g 0) f t b9 o) m9 (27 * g 0))) 1 (garr g (ggo (g 0) f t b9 o) (27 * g 0))) h0 h := hx
            clear hx
            refine zr_iload_n hO (hl := rfl) (j := 3) (hi := rfl) dX3_move_89 ?_
            refine zr_iload_n hO (hl := rfl) (j := 1) (hi := rfl) dX3_move_90 ?_
            refine zr_icmp_gt hO ⟨by omega, by omega⟩ ⟨by omega, by omega⟩ (tgt := 98) dX3_move_91 rfl (fun c91 => ?_) (fun c91 => ?_)
            · skip
              refine zr_iload_n hO (hl := rfl) (j := 3) (hi := rfl) dX3_move_98 ?_
              refine zr_iload_n hO (hl := rfl) (j := 2) (hi := rfl) dX3_move_99 ?_
              refine zr_iload_n hO (hl := rfl) (j := 1) (hi := rfl) dX3_move_100 ?_
              refine zr_isub hO dX3_move_101 ?_
              refine zr_iconst hO dX3_move_102 ?_
              refine zr_iadd hO dX3_move_103 ?_
              refine zr_isub hO dX3_move_104 ?_
              exact zr_ireturn hO dX3_move_105 ⟨(by rw [if_pos c61, if_neg (by omega)]), (zuA (zuA (zuA (zuS (zuA (zuS σ 0 (if (zB ((1 ≤ f ∧ f ≤ g 0) ∧ (1 ≤ t ∧ t ≤ g 0) ∧ (1 ≤ b9 ∧ b9 ≤ g 0 + 1))) = 0 then 1 else 2 - 2 * (zB (f ≤ t ∧ (b9 ≤ f ∨ t < b9))))) 3 (grem A g u)) 6 (gret u)) 27 (ggo (g 0) f t b9 o)) 28 (gmvd g (ggo (g 0) f t b9 o) m9 (27 * g 0))) 1 (garr g (ggo (g 0) f t b9 o) (27 * g 0))), (rfl), (by rw [if_pos c61, if_pos (by omega)]; exact zCo.eq (((((((zCo.refl σ).uS (k := 0) (by decide) (if (zB ((1 ≤ f ∧ f ≤ g 0) ∧ (1 ≤ t ∧ t ≤ g 0) ∧ (1 ≤ b9 ∧ b9 ≤ g 0 + 1))) = 0 then 1 else 2 - 2 * (zB (f ≤ t ∧ (b9 ≤ f ∨ t < b9))))).cA 3 (grem A g u)).cS 6 (gret u)).uA (k := 27) rfl (ggo (g 0) f t b9 o)).uA (k := 28) rfl (gmvd g (ggo (g 0) f t b9 o) m9 (27 * g 0))).cA 1 (garr g (ggo (g 0) f t b9 o) (27 * g 0))) (fun k => by simp only [zuS, zuA, zset] <;> (repeat' split) <;> first | rfl | omega) (fun k hk => by simp only [zuS, zuA, zset] <;> (repeat' split) <;> first | rfl | omega)), hf⟩
            · skip
              refine zr_iload_n hO (hl := rfl) (j := 3) (hi := rfl) dX3_move_94 ?_
              refine zr_goto hO (tgt := 105) dX3_move_95 rfl ?_
              exact zr_ireturn hO dX3_move_105 ⟨(by rw [if_pos c61, if_pos (by omega)]), (zuA (zuA (zuA (zuS (zuA (zuS σ 0 (if (zB ((1 ≤ f ∧ f ≤ g 0) ∧ (1 ≤ t ∧ t ≤ g 0) ∧ (1 ≤ b9 ∧ b9 ≤ g 0 + 1))) = 0 then 1 else 2 - 2 * (zB (f ≤ t ∧ (b9 ≤ f ∨ t < b9))))) 3 (grem A g u)) 6 (gret u)) 27 (ggo (g 0) f t b9 o)) 28 (gmvd g (ggo (g 0) f t b9 o) m9 (27 * g 0))) 1 (garr g (ggo (g 0) f t b9 o) (27 * g 0))), (rfl), (by rw [if_pos c61, if_pos (by omega)]; exact zCo.eq (((((((zCo.refl σ).uS (k := 0) (by decide) (if (zB ((1 ≤ f ∧ f ≤ g 0) ∧ (1 ≤ t ∧ t ≤ g 0) ∧ (1 ≤ b9 ∧ b9 ≤ g 0 + 1))) = 0 then 1 else 2 - 2 * (zB (f ≤ t ∧ (b9 ≤ f ∨ t < b9))))).cA 3 (grem A g u)).cS 6 (gret u)).uA (k := 27) rfl (ggo (g 0) f t b9 o)).uA (k := 28) rfl (gmvd g (ggo (g 0) f t b9 o) m9 (27 * g 0))).cA 1 (garr g (ggo (g 0) f t b9 o) (27 * g 0))) (fun k => by simp only [zuS, zuA, zset] <;> (repeat' split) <;> first | rfl | omega) (fun k hk => by simp only [zuS, zuA, zset] <;> (repeat' split) <;> first | rfl | omega)), hf⟩
      · skip
        have c61 := zB_eq c61
        refine zr_iconst hO dX3_move_64 ?_
        exact zr_ireturn hO dX3_move_65 ⟨(by rw [if_neg c61]), (zuS σ 0 (if (zB ((1 ≤ f ∧ f ≤ g 0) ∧ (1 ≤ t ∧ t ≤ g 0) ∧ (1 ≤ b9 ∧ b9 ≤ g 0 + 1))) = 0 then 1 else 2 - 2 * (zB (f ≤ t ∧ (b9 ≤ f ∨ t < b9))))), (rfl), (by rw [if_neg c61]; exact ((zCo.refl σ).uS (k := 0) (by decide) (if (zB ((1 ≤ f ∧ f ≤ g 0) ∧ (1 ≤ t ∧ t ≤ g 0) ∧ (1 ≤ b9 ∧ b9 ≤ g 0 + 1))) = 0 then 1 else 2 - 2 * (zB (f ≤ t ∧ (b9 ≤ f ∨ t < b9)))))), hf⟩
    refine zr_iload_n hO (hl := rfl) (j := 2) (hi := rfl) dX3_move_38 ?_
    refine zr_iload_n hO (hl := rfl) (j := 1) (hi := rfl) dX3_move_39 ?_
    refine zr_icmp_lt hO ⟨by omega, by omega⟩ ⟨by omega, by omega⟩ (tgt := 57) dX3_move_40 rfl (fun c40 => ?_) (fun c40 => ?_)
    · skip
      refine zr_iconst hO dX3_move_57 ?_
      exact hj58 0 ((zB_f (by omega)).symm) h hf
    · skip
      refine zr_iload_n hO (hl := rfl) (j := 3) (hi := rfl) dX3_move_43 ?_
      refine zr_iload_n hO (hl := rfl) (j := 1) (hi := rfl) dX3_move_44 ?_
      refine zr_icmp_le hO ⟨by omega, by omega⟩ ⟨by omega, by omega⟩ (tgt := 53) dX3_move_45 rfl (fun c45 => ?_) (fun c45 => ?_)
      · skip
        refine zr_iconst hO dX3_move_53 ?_
        refine zr_goto hO (tgt := 58) dX3_move_54 rfl ?_
        exact hj58 1 ((zB_t (by omega)).symm) h hf
      · skip
        refine zr_iload_n hO (hl := rfl) (j := 3) (hi := rfl) dX3_move_48 ?_
        refine zr_iload_n hO (hl := rfl) (j := 2) (hi := rfl) dX3_move_49 ?_
        refine zr_icmp_le hO ⟨by omega, by omega⟩ ⟨by omega, by omega⟩ (tgt := 57) dX3_move_50 rfl (fun c50 => ?_) (fun c50 => ?_)
        · skip
          refine zr_iconst hO dX3_move_57 ?_
          exact hj58 0 ((zB_f (by omega)).symm) h hf
        · skip
          refine zr_iconst hO dX3_move_53 ?_
          refine zr_goto hO (tgt := 58) dX3_move_54 rfl ?_
          exact hj58 1 ((zB_t (by omega)).symm) h hf
  refine zr_aload_n hO (hl := rfl) (j := 0) (hi := rfl) dX3_move_0 ?_
  refine zr_aload_n hO (hl := rfl) (j := 0) (hi := rfl) dX3_move_1 ?_
  refine zr_iload_n hO (hl := rfl) (j := 1) (hi := rfl) dX3_move_2 ?_
  refine zr_cVi hO zc_X3 zw_X3_167 (c_X3_isLine hI hf hg f (⟨by omega, by omega⟩)) dX3_move_3 (zrd_of hf.1) rfl (rest := [zp r]) rfl ⟨Nat.le_of_ble_eq_true rfl, Nat.le_of_ble_eq_true rfl⟩ (Nat.le_of_ble_eq_true rfl) (Nat.le_refl _) (Nat.le_refl _) (fun x h hx => ?_)
  obtain ⟨hx, hf⟩ := hx
  have hx : x = zB (1 ≤ f ∧ f ≤ g 0) := hx
  subst hx
  refine zr_if_eq hO (zR_B _) (tgt := 37) dX3_move_6 rfl (fun c6 => ?_) (fun c6 => ?_)
  · skip
    have c6 := zB_eq c6
    refine zr_iconst hO dX3_move_37 ?_
    have hj58 : ∀ (d : Int) (hd : d = zB (f ≤ t ∧ (b9 ≤ f ∨ t < b9))) (h : zHp) (hf : zRf r ad σ h0 h), zV G K 0 0 h 58 [(0, zp r), (1, zi f), (2, zi t), (3, zi b9)] [zi d, zi (zB ((1 ≤ f ∧ f ≤ g 0) ∧ (1 ≤ t ∧ t ≤ g 0) ∧ (1 ≤ b9 ∧ b9 ≤ g 0 + 1))), zp r] := by
      intro d hd h hf
      subst hd
      refine zr_cVi hO zc_X3 zw_X3_170 (c_X3_mayBoth hI hf (zB ((1 ≤ f ∧ f ≤ g 0) ∧ (1 ≤ t ∧ t ≤ g 0) ∧ (1 ≤ b9 ∧ b9 ≤ g 0 + 1))) (zB (f ≤ t ∧ (b9 ≤ f ∨ t < b9))) (zB_01 _) (zB_01 _)) dX3_move_58 (zrd_of hf.1) rfl (rest := []) rfl ⟨Nat.le_of_ble_eq_true rfl, Nat.le_of_ble_eq_true rfl⟩ (Nat.le_of_ble_eq_true rfl) (Nat.le_refl _) (Nat.le_refl _) (fun x h hx => ?_)
      obtain ⟨hx, hf⟩ := hx
      have hx : x = zB ((zB ((1 ≤ f ∧ f ≤ g 0) ∧ (1 ≤ t ∧ t ≤ g 0) ∧ (1 ≤ b9 ∧ b9 ≤ g 0 + 1))) = 1 ∧ (zB (f ≤ t ∧ (b9 ≤ f ∨ t < b9))) = 1) := hx
      subst hx
      have hf : zRf r ad (zuS σ 0 (if (zB ((1 ≤ f ∧ f ≤ g 0) ∧ (1 ≤ t ∧ t ≤ g 0) ∧ (1 ≤ b9 ∧ b9 ≤ g 0 + 1))) = 0 then 1 else 2 - 2 * (zB (f ≤ t ∧ (b9 ≤ f ∨ t < b9))))) h0 h := hf
      rw [show (zB ((zB ((1 ≤ f ∧ f ≤ g 0) ∧ (1 ≤ t ∧ t ≤ g 0) ∧ (1 ≤ b9 ∧ b9 ≤ g 0 + 1))) = 1 ∧ (zB (f ≤ t ∧ (b9 ≤ f ∨ t < b9))) = 1)) = zB (((1 ≤ f ∧ f ≤ g 0) ∧ (1 ≤ t ∧ t ≤ g 0) ∧ (1 ≤ b9 ∧ b9 ≤ g 0 + 1)) ∧ (f ≤ t ∧ (b9 ≤ f ∨ t < b9))) from zB_and _ _]
      refine zr_if_ne hO (zR_B _) (tgt := 66) dX3_move_61 rfl (fun c61 => ?_) (fun c61 => ?_)
      · skip
        have c61 := zB_ne c61
        refine zr_aload_n hO (hl := rfl) (j := 0) (hi := rfl) dX3_move_66 ?_
        refine zr_cVv hO zc_X3 zw_X3_294 (c_X3_remembers hI hf hg hA hu  (by omega) (by omega)) dX3_move_67 (zrd_of hf.1) rfl (rest := []) rfl ⟨Nat.le_of_ble_eq_true rfl, Nat.le_of_ble_eq_true rfl⟩ (Nat.le_of_ble_eq_true rfl) (Nat.le_refl _) (Nat.le_refl _) (fun h hx => ?_)
        have hf : zRf r ad (zuS (zuA (zuS σ 0 (if (zB ((1 ≤ f ∧ f ≤ g 0) ∧ (1 ≤ t ∧ t ≤ g 0) ∧ (1 ≤ b9 ∧ b9 ≤ g 0 + 1))) = 0 then 1 else 2 - 2 * (zB (f ≤ t ∧ (b9 ≤ f ∨ t < b9))))) 3 (grem A g u)) 6 (gret u)) h0 h := hx
        clear hx
        refine zr_iload_n hO (hl := rfl) (j := 3) (hi := rfl) dX3_move_70 ?_
        refine zr_iload_n hO (hl := rfl) (j := 1) (hi := rfl) dX3_move_71 ?_
        refine zr_icmp_lt hO ⟨by omega, by omega⟩ ⟨by omega, by omega⟩ (tgt := 82) dX3_move_72 rfl (fun c72 => ?_) (fun c72 => ?_)
        · skip
          refine zr_aload_n hO (hl := rfl) (j := 0) (hi := rfl) dX3_move_82 ?_
          refine zr_iload_n hO (hl := rfl) (j := 1) (hi := rfl) dX3_move_83 ?_
          refine zr_iload_n hO (hl := rfl) (j := 2) (hi := rfl) dX3_move_84 ?_
          refine zr_iload_n hO (hl := rfl) (j := 3) (hi := rfl) dX3_move_85 ?_
          refine zr_cVv hO zc_X3 zw_X3_287 (c_X3_goes hI hf hg ho hm9 f t b9 (by omega) (by omega) (by omega) (by omega) (by omega) (by omega) (by omega)) dX3_move_86 (zrd_of hf.1) rfl (rest := []) rfl ⟨Nat.le_of_ble_eq_true rfl, Nat.le_of_ble_eq_true rfl⟩ (Nat.le_of_ble_eq_true rfl) (Nat.le_refl _) (Nat.le_refl _) (fun h hx => ?_)
          have hf : zRf r ad (zuA (zuA (zuA (zuS (zuA (zuS σ 0 (if (zB ((1 ≤ f ∧ f ≤ g 0) ∧ (1 ≤ t ∧ t ≤ g 0) ∧ (1 ≤ b9 ∧ b9 ≤ g 0 + 1))) = 0 then 1 else 2 - 2 * (zB (f ≤ t ∧ (b9 ≤ f ∨ t < b9))))) 3 (grem A g u)) 6 (gret u)) 27 (ggo (g 0) f t b9 o)) 28 (gmvd g (ggo (g 0) f t b9 o) m9 (27 * g 0))) 1 (garr g (ggo (g 0) f t b9 o) (27 * g 0))) h0 h := hx
          clear hx
          refine zr_iload_n hO (hl := rfl) (j := 3) (hi := rfl) dX3_move_89 ?_
          refine zr_iload_n hO (hl := rfl) (j := 1) (hi := rfl) dX3_move_90 ?_
          refine zr_icmp_gt hO ⟨by omega, by omega⟩ ⟨by omega, by omega⟩ (tgt := 98) dX3_move_91 rfl (fun c91 => ?_) (fun c91 => ?_)
          · skip
            refine zr_iload_n hO (hl := rfl) (j := 3) (hi := rfl) dX3_move_98 ?_
            refine zr_iload_n hO (hl := rfl) (j := 2) (hi := rfl) dX3_move_99 ?_
            refine zr_iload_n hO (hl := rfl) (j := 1) (hi := rfl) dX3_move_100 ?_
            refine zr_isub hO dX3_move_101 ?_
            refine zr_iconst hO dX3_move_102 ?_
            refine zr_iadd hO dX3_move_103 ?_
            refine zr_isub hO dX3_move_104 ?_
            exact zr_ireturn hO dX3_move_105 ⟨(by rw [if_pos c61, if_neg (by omega)]), (zuA (zuA (zuA (zuS (zuA (zuS σ 0 (if (zB ((1 ≤ f ∧ f ≤ g 0) ∧ (1 ≤ t ∧ t ≤ g 0) ∧ (1 ≤ b9 ∧ b9 ≤ g 0 + 1))) = 0 then 1 else 2 - 2 * (zB (f ≤ t ∧ (b9 ≤ f ∨ t < b9))))) 3 (grem A g u)) 6 (gret u)) 27 (ggo (g 0) f t b9 o)) 28 (gmvd g (ggo (g 0) f t b9 o) m9 (27 * g 0))) 1 (garr g (ggo (g 0) f t b9 o) (27 * g 0))), (rfl), (by rw [if_pos c61, if_pos (by omega)]; exact zCo.eq (((((((zCo.refl σ).uS (k := 0) (by decide) (if (zB ((1 ≤ f ∧ f ≤ g 0) ∧ (1 ≤ t ∧ t ≤ g 0) ∧ (1 ≤ b9 ∧ b9 ≤ g 0 + 1))) = 0 then 1 else 2 - 2 * (zB (f ≤ t ∧ (b9 ≤ f ∨ t < b9))))).cA 3 (grem A g u)).cS 6 (gret u)).uA (k := 27) rfl (ggo (g 0) f t b9 o)).uA (k := 28) rfl (gmvd g (ggo (g 0) f t b9 o) m9 (27 * g 0))).cA 1 (garr g (ggo (g 0) f t b9 o) (27 * g 0))) (fun k => by simp only [zuS, zuA, zset] <;> (repeat' split) <;> first | rfl | omega) (fun k hk => by simp only [zuS, zuA, zset] <;> (repeat' split) <;> first | rfl | omega)), hf⟩
          · skip
            refine zr_iload_n hO (hl := rfl) (j := 3) (hi := rfl) dX3_move_94 ?_
            refine zr_goto hO (tgt := 105) dX3_move_95 rfl ?_
            exact zr_ireturn hO dX3_move_105 ⟨(by rw [if_pos c61, if_pos (by omega)]), (zuA (zuA (zuA (zuS (zuA (zuS σ 0 (if (zB ((1 ≤ f ∧ f ≤ g 0) ∧ (1 ≤ t ∧ t ≤ g 0) ∧ (1 ≤ b9 ∧ b9 ≤ g 0 + 1))) = 0 then 1 else 2 - 2 * (zB (f ≤ t ∧ (b9 ≤ f ∨ t < b9))))) 3 (grem A g u)) 6 (gret u)) 27 (ggo (g 0) f t b9 o)) 28 (gmvd g (ggo (g 0) f t b9 o) m9 (27 * g 0))) 1 (garr g (ggo (g 0) f t b9 o) (27 * g 0))), (rfl), (by rw [if_pos c61, if_pos (by omega)]; exact zCo.eq (((((((zCo.refl σ).uS (k := 0) (by decide) (if (zB ((1 ≤ f ∧ f ≤ g 0) ∧ (1 ≤ t ∧ t ≤ g 0) ∧ (1 ≤ b9 ∧ b9 ≤ g 0 + 1))) = 0 then 1 else 2 - 2 * (zB (f ≤ t ∧ (b9 ≤ f ∨ t < b9))))).cA 3 (grem A g u)).cS 6 (gret u)).uA (k := 27) rfl (ggo (g 0) f t b9 o)).uA (k := 28) rfl (gmvd g (ggo (g 0) f t b9 o) m9 (27 * g 0))).cA 1 (garr g (ggo (g 0) f t b9 o) (27 * g 0))) (fun k => by simp only [zuS, zuA, zset] <;> (repeat' split) <;> first | rfl | omega) (fun k hk => by simp only [zuS, zuA, zset] <;> (repeat' split) <;> first | rfl | omega)), hf⟩
        · skip
          refine zr_iload_n hO (hl := rfl) (j := 3) (hi := rfl) dX3_move_75 ?_
          refine zr_iload_n hO (hl := rfl) (j := 2) (hi := rfl) dX3_move_76 ?_
          refine zr_iconst hO dX3_move_77 ?_
          refine zr_iadd hO dX3_move_78 ?_
          refine zr_icmp_le hO ⟨by omega, by omega⟩ ⟨by omega, by omega⟩ (tgt := 89) dX3_move_79 rfl (fun c79 => ?_) (fun c79 => ?_)
          · skip
            refine zr_iload_n hO (hl := rfl) (j := 3) (hi := rfl) dX3_move_89 ?_
            refine zr_iload_n hO (hl := rfl) (j := 1) (hi := rfl) dX3_move_90 ?_
            refine zr_icmp_gt hO ⟨by omega, by omega⟩ ⟨by omega, by omega⟩ (tgt := 98) dX3_move_91 rfl (fun c91 => ?_) (fun c91 => ?_)
            · skip
              refine zr_iload_n hO (hl := rfl) (j := 3) (hi := rfl) dX3_move_98 ?_
              refine zr_iload_n hO (hl := rfl) (j := 2) (hi := rfl) dX3_move_99 ?_
              refine zr_iload_n hO (hl := rfl) (j := 1) (hi := rfl) dX3_move_100 ?_
              refine zr_isub hO dX3_move_101 ?_
              refine zr_iconst hO dX3_move_102 ?_
              refine zr_iadd hO dX3_move_103 ?_
              refine zr_isub hO dX3_move_104 ?_
              exact zr_ireturn hO dX3_move_105 ⟨(by rw [if_pos c61, if_neg (by omega)]), (zuS (zuA (zuS σ 0 (if (zB ((1 ≤ f ∧ f ≤ g 0) ∧ (1 ≤ t ∧ t ≤ g 0) ∧ (1 ≤ b9 ∧ b9 ≤ g 0 + 1))) = 0 then 1 else 2 - 2 * (zB (f ≤ t ∧ (b9 ≤ f ∨ t < b9))))) 3 (grem A g u)) 6 (gret u)), (rfl), (by rw [if_pos c61, if_neg (by omega)]; exact zCo.eq ((((zCo.refl σ).uS (k := 0) (by decide) (if (zB ((1 ≤ f ∧ f ≤ g 0) ∧ (1 ≤ t ∧ t ≤ g 0) ∧ (1 ≤ b9 ∧ b9 ≤ g 0 + 1))) = 0 then 1 else 2 - 2 * (zB (f ≤ t ∧ (b9 ≤ f ∨ t < b9))))).cA 3 (grem A g u)).cS 6 (gret u)) (fun k => by simp only [zuS, zuA, zset] <;> (repeat' split) <;> first | rfl | omega) (fun k hk => by simp only [zuS, zuA, zset] <;> (repeat' split) <;> first | rfl | omega)), hf⟩
            · skip
              refine zr_iload_n hO (hl := rfl) (j := 3) (hi := rfl) dX3_move_94 ?_
              refine zr_goto hO (tgt := 105) dX3_move_95 rfl ?_
              exact zr_ireturn hO dX3_move_105 ⟨(by rw [if_pos c61, if_pos (by omega)]), (zuS (zuA (zuS σ 0 (if (zB ((1 ≤ f ∧ f ≤ g 0) ∧ (1 ≤ t ∧ t ≤ g 0) ∧ (1 ≤ b9 ∧ b9 ≤ g 0 + 1))) = 0 then 1 else 2 - 2 * (zB (f ≤ t ∧ (b9 ≤ f ∨ t < b9))))) 3 (grem A g u)) 6 (gret u)), (rfl), (by rw [if_pos c61, if_neg (by omega)]; exact zCo.eq ((((zCo.refl σ).uS (k := 0) (by decide) (if (zB ((1 ≤ f ∧ f ≤ g 0) ∧ (1 ≤ t ∧ t ≤ g 0) ∧ (1 ≤ b9 ∧ b9 ≤ g 0 + 1))) = 0 then 1 else 2 - 2 * (zB (f ≤ t ∧ (b9 ≤ f ∨ t < b9))))).cA 3 (grem A g u)).cS 6 (gret u)) (fun k => by simp only [zuS, zuA, zset] <;> (repeat' split) <;> first | rfl | omega) (fun k hk => by simp only [zuS, zuA, zset] <;> (repeat' split) <;> first | rfl | omega)), hf⟩
          · skip
            refine zr_aload_n hO (hl := rfl) (j := 0) (hi := rfl) dX3_move_82 ?_
            refine zr_iload_n hO (hl := rfl) (j := 1) (hi := rfl) dX3_move_83 ?_
            refine zr_iload_n hO (hl := rfl) (j := 2) (hi := rfl) dX3_move_84 ?_
            refine zr_iload_n hO (hl := rfl) (j := 3) (hi := rfl) dX3_move_85 ?_
            refine zr_cVv hO zc_X3 zw_X3_287 (c_X3_goes hI hf hg ho hm9 f t b9 (by omega) (by omega) (by omega) (by omega) (by omega) (by omega) (by omega)) dX3_move_86 (zrd_of hf.1) rfl (rest := []) rfl ⟨Nat.le_of_ble_eq_true rfl, Nat.le_of_ble_eq_true rfl⟩ (Nat.le_of_ble_eq_true rfl) (Nat.le_refl _) (Nat.le_refl _) (fun h hx => ?_)
            have hf : zRf r ad (zuA (zuA (zuA (zuS (zuA (zuS σ 0 (if (zB ((1 ≤ f ∧ f ≤ g 0) ∧ (1 ≤ t ∧ t ≤ g 0) ∧ (1 ≤ b9 ∧ b9 ≤ g 0 + 1))) = 0 then 1 else 2 - 2 * (zB (f ≤ t ∧ (b9 ≤ f ∨ t < b9))))) 3 (grem A g u)) 6 (gret u)) 27 (ggo (g 0) f t b9 o)) 28 (gmvd g (ggo (g 0) f t b9 o) m9 (27 * g 0))) 1 (garr g (ggo (g 0) f t b9 o) (27 * g 0))) h0 h := hx
            clear hx
            refine zr_iload_n hO (hl := rfl) (j := 3) (hi := rfl) dX3_move_89 ?_
            refine zr_iload_n hO (hl := rfl) (j := 1) (hi := rfl) dX3_move_90 ?_
            refine zr_icmp_gt hO ⟨by omega, by omega⟩ ⟨by omega, by omega⟩ (tgt := 98) dX3_move_91 rfl (fun c91 => ?_) (fun c91 => ?_)
            · skip
              refine zr_iload_n hO (hl := rfl) (j := 3) (hi := rfl) dX3_move_98 ?_
              refine zr_iload_n hO (hl := rfl) (j := 2) (hi := rfl) dX3_move_99 ?_
              refine zr_iload_n hO (hl := rfl) (j := 1) (hi := rfl) dX3_move_100 ?_
              refine zr_isub hO dX3_move_101 ?_
              refine zr_iconst hO dX3_move_102 ?_
              refine zr_iadd hO dX3_move_103 ?_
              refine zr_isub hO dX3_move_104 ?_
              exact zr_ireturn hO dX3_move_105 ⟨(by rw [if_pos c61, if_neg (by omega)]), (zuA (zuA (zuA (zuS (zuA (zuS σ 0 (if (zB ((1 ≤ f ∧ f ≤ g 0) ∧ (1 ≤ t ∧ t ≤ g 0) ∧ (1 ≤ b9 ∧ b9 ≤ g 0 + 1))) = 0 then 1 else 2 - 2 * (zB (f ≤ t ∧ (b9 ≤ f ∨ t < b9))))) 3 (grem A g u)) 6 (gret u)) 27 (ggo (g 0) f t b9 o)) 28 (gmvd g (ggo (g 0) f t b9 o) m9 (27 * g 0))) 1 (garr g (ggo (g 0) f t b9 o) (27 * g 0))), (rfl), (by rw [if_pos c61, if_pos (by omega)]; exact zCo.eq (((((((zCo.refl σ).uS (k := 0) (by decide) (if (zB ((1 ≤ f ∧ f ≤ g 0) ∧ (1 ≤ t ∧ t ≤ g 0) ∧ (1 ≤ b9 ∧ b9 ≤ g 0 + 1))) = 0 then 1 else 2 - 2 * (zB (f ≤ t ∧ (b9 ≤ f ∨ t < b9))))).cA 3 (grem A g u)).cS 6 (gret u)).uA (k := 27) rfl (ggo (g 0) f t b9 o)).uA (k := 28) rfl (gmvd g (ggo (g 0) f t b9 o) m9 (27 * g 0))).cA 1 (garr g (ggo (g 0) f t b9 o) (27 * g 0))) (fun k => by simp only [zuS, zuA, zset] <;> (repeat' split) <;> first | rfl | omega) (fun k hk => by simp only [zuS, zuA, zset] <;> (repeat' split) <;> first | rfl | omega)), hf⟩
            · skip
              refine zr_iload_n hO (hl := rfl) (j := 3) (hi := rfl) dX3_move_94 ?_
              refine zr_goto hO (tgt := 105) dX3_move_95 rfl ?_
              exact zr_ireturn hO dX3_move_105 ⟨(by rw [if_pos c61, if_pos (by omega)]), (zuA (zuA (zuA (zuS (zuA (zuS σ 0 (if (zB ((1 ≤ f ∧ f ≤ g 0) ∧ (1 ≤ t ∧ t ≤ g 0) ∧ (1 ≤ b9 ∧ b9 ≤ g 0 + 1))) = 0 then 1 else 2 - 2 * (zB (f ≤ t ∧ (b9 ≤ f ∨ t < b9))))) 3 (grem A g u)) 6 (gret u)) 27 (ggo (g 0) f t b9 o)) 28 (gmvd g (ggo (g 0) f t b9 o) m9 (27 * g 0))) 1 (garr g (ggo (g 0) f t b9 o) (27 * g 0))), (rfl), (by rw [if_pos c61, if_pos (by omega)]; exact zCo.eq (((((((zCo.refl σ).uS (k := 0) (by decide) (if (zB ((1 ≤ f ∧ f ≤ g 0) ∧ (1 ≤ t ∧ t ≤ g 0) ∧ (1 ≤ b9 ∧ b9 ≤ g 0 + 1))) = 0 then 1 else 2 - 2 * (zB (f ≤ t ∧ (b9 ≤ f ∨ t < b9))))).cA 3 (grem A g u)).cS 6 (gret u)).uA (k := 27) rfl (ggo (g 0) f t b9 o)).uA (k := 28) rfl (gmvd g (ggo (g 0) f t b9 o) m9 (27 * g 0))).cA 1 (garr g (ggo (g 0) f t b9 o) (27 * g 0))) (fun k => by simp only [zuS, zuA, zset] <;> (repeat' split) <;> first | rfl | omega) (fun k hk => by simp only [zuS, zuA, zset] <;> (repeat' split) <;> first | rfl | omega)), hf⟩
      · skip
        have c61 := zB_eq c61
        refine zr_iconst hO dX3_move_64 ?_
        exact zr_ireturn hO dX3_move_65 ⟨(by rw [if_neg c61]), (zuS σ 0 (if (zB ((1 ≤ f ∧ f ≤ g 0) ∧ (1 ≤ t ∧ t ≤ g 0) ∧ (1 ≤ b9 ∧ b9 ≤ g 0 + 1))) = 0 then 1 else 2 - 2 * (zB (f ≤ t ∧ (b9 ≤ f ∨ t < b9))))), (rfl), (by rw [if_neg c61]; exact ((zCo.refl σ).uS (k := 0) (by decide) (if (zB ((1 ≤ f ∧ f ≤ g 0) ∧ (1 ≤ t ∧ t ≤ g 0) ∧ (1 ≤ b9 ∧ b9 ≤ g 0 + 1))) = 0 then 1 else 2 - 2 * (zB (f ≤ t ∧ (b9 ≤ f ∨ t < b9)))))), hf⟩
    exact hj38 0 ((zB_f (by omega)).symm) h hf
  · skip
    have c6 := zB_ne c6
    refine zr_aload_n hO (hl := rfl) (j := 0) (hi := rfl) dX3_move_9 ?_
    refine zr_iload_n hO (hl := rfl) (j := 2) (hi := rfl) dX3_move_10 ?_
    refine zr_cVi hO zc_X3 zw_X3_167 (c_X3_isLine hI hf hg t (⟨by omega, by omega⟩)) dX3_move_11 (zrd_of hf.1) rfl (rest := [zp r]) rfl ⟨Nat.le_of_ble_eq_true rfl, Nat.le_of_ble_eq_true rfl⟩ (Nat.le_of_ble_eq_true rfl) (Nat.le_refl _) (Nat.le_refl _) (fun x h hx => ?_)
    obtain ⟨hx, hf⟩ := hx
    have hx : x = zB (1 ≤ t ∧ t ≤ g 0) := hx
    subst hx
    refine zr_if_eq hO (zR_B _) (tgt := 37) dX3_move_14 rfl (fun c14 => ?_) (fun c14 => ?_)
    · skip
      have c14 := zB_eq c14
      refine zr_iconst hO dX3_move_37 ?_
      have hj58 : ∀ (d : Int) (hd : d = zB (f ≤ t ∧ (b9 ≤ f ∨ t < b9))) (h : zHp) (hf : zRf r ad σ h0 h), zV G K 0 0 h 58 [(0, zp r), (1, zi f), (2, zi t), (3, zi b9)] [zi d, zi (zB ((1 ≤ f ∧ f ≤ g 0) ∧ (1 ≤ t ∧ t ≤ g 0) ∧ (1 ≤ b9 ∧ b9 ≤ g 0 + 1))), zp r] := by
        intro d hd h hf
        subst hd
        refine zr_cVi hO zc_X3 zw_X3_170 (c_X3_mayBoth hI hf (zB ((1 ≤ f ∧ f ≤ g 0) ∧ (1 ≤ t ∧ t ≤ g 0) ∧ (1 ≤ b9 ∧ b9 ≤ g 0 + 1))) (zB (f ≤ t ∧ (b9 ≤ f ∨ t < b9))) (zB_01 _) (zB_01 _)) dX3_move_58 (zrd_of hf.1) rfl (rest := []) rfl ⟨Nat.le_of_ble_eq_true rfl, Nat.le_of_ble_eq_true rfl⟩ (Nat.le_of_ble_eq_true rfl) (Nat.le_refl _) (Nat.le_refl _) (fun x h hx => ?_)
        obtain ⟨hx, hf⟩ := hx
        have hx : x = zB ((zB ((1 ≤ f ∧ f ≤ g 0) ∧ (1 ≤ t ∧ t ≤ g 0) ∧ (1 ≤ b9 ∧ b9 ≤ g 0 + 1))) = 1 ∧ (zB (f ≤ t ∧ (b9 ≤ f ∨ t < b9))) = 1) := hx
        subst hx
        have hf : zRf r ad (zuS σ 0 (if (zB ((1 ≤ f ∧ f ≤ g 0) ∧ (1 ≤ t ∧ t ≤ g 0) ∧ (1 ≤ b9 ∧ b9 ≤ g 0 + 1))) = 0 then 1 else 2 - 2 * (zB (f ≤ t ∧ (b9 ≤ f ∨ t < b9))))) h0 h := hf
        rw [show (zB ((zB ((1 ≤ f ∧ f ≤ g 0) ∧ (1 ≤ t ∧ t ≤ g 0) ∧ (1 ≤ b9 ∧ b9 ≤ g 0 + 1))) = 1 ∧ (zB (f ≤ t ∧ (b9 ≤ f ∨ t < b9))) = 1)) = zB (((1 ≤ f ∧ f ≤ g 0) ∧ (1 ≤ t ∧ t ≤ g 0) ∧ (1 ≤ b9 ∧ b9 ≤ g 0 + 1)) ∧ (f ≤ t ∧ (b9 ≤ f ∨ t < b9))) from zB_and _ _]
        refine zr_if_ne hO (zR_B _) (tgt := 66) dX3_move_61 rfl (fun c61 => ?_) (fun c61 => ?_)
        · skip
          have c61 := zB_ne c61
          refine zr_aload_n hO (hl := rfl) (j := 0) (hi := rfl) dX3_move_66 ?_
          refine zr_cVv hO zc_X3 zw_X3_294 (c_X3_remembers hI hf hg hA hu  (by omega) (by omega)) dX3_move_67 (zrd_of hf.1) rfl (rest := []) rfl ⟨Nat.le_of_ble_eq_true rfl, Nat.le_of_ble_eq_true rfl⟩ (Nat.le_of_ble_eq_true rfl) (Nat.le_refl _) (Nat.le_refl _) (fun h hx => ?_)
          have hf : zRf r ad (zuS (zuA (zuS σ 0 (if (zB ((1 ≤ f ∧ f ≤ g 0) ∧ (1 ≤ t ∧ t ≤ g 0) ∧ (1 ≤ b9 ∧ b9 ≤ g 0 + 1))) = 0 then 1 else 2 - 2 * (zB (f ≤ t ∧ (b9 ≤ f ∨ t < b9))))) 3 (grem A g u)) 6 (gret u)) h0 h := hx
          clear hx
          refine zr_iload_n hO (hl := rfl) (j := 3) (hi := rfl) dX3_move_70 ?_
          refine zr_iload_n hO (hl := rfl) (j := 1) (hi := rfl) dX3_move_71 ?_
          refine zr_icmp_lt hO ⟨by omega, by omega⟩ ⟨by omega, by omega⟩ (tgt := 82) dX3_move_72 rfl (fun c72 => ?_) (fun c72 => ?_)
          · skip
            refine zr_aload_n hO (hl := rfl) (j := 0) (hi := rfl) dX3_move_82 ?_
            refine zr_iload_n hO (hl := rfl) (j := 1) (hi := rfl) dX3_move_83 ?_
            refine zr_iload_n hO (hl := rfl) (j := 2) (hi := rfl) dX3_move_84 ?_
            refine zr_iload_n hO (hl := rfl) (j := 3) (hi := rfl) dX3_move_85 ?_
            refine zr_cVv hO zc_X3 zw_X3_287 (c_X3_goes hI hf hg ho hm9 f t b9 (by omega) (by omega) (by omega) (by omega) (by omega) (by omega) (by omega)) dX3_move_86 (zrd_of hf.1) rfl (rest := []) rfl ⟨Nat.le_of_ble_eq_true rfl, Nat.le_of_ble_eq_true rfl⟩ (Nat.le_of_ble_eq_true rfl) (Nat.le_refl _) (Nat.le_refl _) (fun h hx => ?_)
            have hf : zRf r ad (zuA (zuA (zuA (zuS (zuA (zuS σ 0 (if (zB ((1 ≤ f ∧ f ≤ g 0) ∧ (1 ≤ t ∧ t ≤ g 0) ∧ (1 ≤ b9 ∧ b9 ≤ g 0 + 1))) = 0 then 1 else 2 - 2 * (zB (f ≤ t ∧ (b9 ≤ f ∨ t < b9))))) 3 (grem A g u)) 6 (gret u)) 27 (ggo (g 0) f t b9 o)) 28 (gmvd g (ggo (g 0) f t b9 o) m9 (27 * g 0))) 1 (garr g (ggo (g 0) f t b9 o) (27 * g 0))) h0 h := hx
            clear hx
            refine zr_iload_n hO (hl := rfl) (j := 3) (hi := rfl) dX3_move_89 ?_
            refine zr_iload_n hO (hl := rfl) (j := 1) (hi := rfl) dX3_move_90 ?_
            refine zr_icmp_gt hO ⟨by omega, by omega⟩ ⟨by omega, by omega⟩ (tgt := 98) dX3_move_91 rfl (fun c91 => ?_) (fun c91 => ?_)
            · skip
              refine zr_iload_n hO (hl := rfl) (j := 3) (hi := rfl) dX3_move_98 ?_
              refine zr_iload_n hO (hl := rfl) (j := 2) (hi := rfl) dX3_move_99 ?_
              refine zr_iload_n hO (hl := rfl) (j := 1) (hi := rfl) dX3_move_100 ?_
              refine zr_isub hO dX3_move_101 ?_
              refine zr_iconst hO dX3_move_102 ?_
              refine zr_iadd hO dX3_move_103 ?_
              refine zr_isub hO dX3_move_104 ?_
              exact zr_ireturn hO dX3_move_105 ⟨(by rw [if_pos c61, if_neg (by omega)]), (zuA (zuA (zuA (zuS (zuA (zuS σ 0 (if (zB ((1 ≤ f ∧ f ≤ g 0) ∧ (1 ≤ t ∧ t ≤ g 0) ∧ (1 ≤ b9 ∧ b9 ≤ g 0 + 1))) = 0 then 1 else 2 - 2 * (zB (f ≤ t ∧ (b9 ≤ f ∨ t < b9))))) 3 (grem A g u)) 6 (gret u)) 27 (ggo (g 0) f t b9 o)) 28 (gmvd g (ggo (g 0) f t b9 o) m9 (27 * g 0))) 1 (garr g (ggo (g 0) f t b9 o) (27 * g 0))), (rfl), (by rw [if_pos c61, if_pos (by omega)]; exact zCo.eq (((((((zCo.refl σ).uS (k := 0) (by decide) (if (zB ((1 ≤ f ∧ f ≤ g 0) ∧ (1 ≤ t ∧ t ≤ g 0) ∧ (1 ≤ b9 ∧ b9 ≤ g 0 + 1))) = 0 then 1 else 2 - 2 * (zB (f ≤ t ∧ (b9 ≤ f ∨ t < b9))))).cA 3 (grem A g u)).cS 6 (gret u)).uA (k := 27) rfl (ggo (g 0) f t b9 o)).uA (k := 28) rfl (gmvd g (ggo (g 0) f t b9 o) m9 (27 * g 0))).cA 1 (garr g (ggo (g 0) f t b9 o) (27 * g 0))) (fun k => by simp only [zuS, zuA, zset] <;> (repeat' split) <;> first | rfl | omega) (fun k hk => by simp only [zuS, zuA, zset] <;> (repeat' split) <;> first | rfl | omega)), hf⟩
            · skip
              refine zr_iload_n hO (hl := rfl) (j := 3) (hi := rfl) dX3_move_94 ?_
              refine zr_goto hO (tgt := 105) dX3_move_95 rfl ?_
              exact zr_ireturn hO dX3_move_105 ⟨(by rw [if_pos c61, if_pos (by omega)]), (zuA (zuA (zuA (zuS (zuA (zuS σ 0 (if (zB ((1 ≤ f ∧ f ≤ g 0) ∧ (1 ≤ t ∧ t ≤ g 0) ∧ (1 ≤ b9 ∧ b9 ≤ g 0 + 1))) = 0 then 1 else 2 - 2 * (zB (f ≤ t ∧ (b9 ≤ f ∨ t < b9))))) 3 (grem A g u)) 6 (gret u)) 27 (ggo (g 0) f t b9 o)) 28 (gmvd g (ggo (g 0) f t b9 o) m9 (27 * g 0))) 1 (garr g (ggo (g 0) f t b9 o) (27 * g 0))), (rfl), (by rw [if_pos c61, if_pos (by omega)]; exact zCo.eq (((((((zCo.refl σ).uS (k := 0) (by decide) (if (zB ((1 ≤ f ∧ f ≤ g 0) ∧ (1 ≤ t ∧ t ≤ g 0) ∧ (1 ≤ b9 ∧ b9 ≤ g 0 + 1))) = 0 then 1 else 2 - 2 * (zB (f ≤ t ∧ (b9 ≤ f ∨ t < b9))))).cA 3 (grem A g u)).cS 6 (gret u)).uA (k := 27) rfl (ggo (g 0) f t b9 o)).uA (k := 28) rfl (gmvd g (ggo (g 0) f t b9 o) m9 (27 * g 0))).cA 1 (garr g (ggo (g 0) f t b9 o) (27 * g 0))) (fun k => by simp only [zuS, zuA, zset] <;> (repeat' split) <;> first | rfl | omega) (fun k hk => by simp only [zuS, zuA, zset] <;> (repeat' split) <;> first | rfl | omega)), hf⟩
          · skip
            refine zr_iload_n hO (hl := rfl) (j := 3) (hi := rfl) dX3_move_75 ?_
            refine zr_iload_n hO (hl := rfl) (j := 2) (hi := rfl) dX3_move_76 ?_
            refine zr_iconst hO dX3_move_77 ?_
            refine zr_iadd hO dX3_move_78 ?_
            refine zr_icmp_le hO ⟨by omega, by omega⟩ ⟨by omega, by omega⟩ (tgt := 89) dX3_move_79 rfl (fun c79 => ?_) (fun c79 => ?_)
            · skip
              refine zr_iload_n hO (hl := rfl) (j := 3) (hi := rfl) dX3_move_89 ?_
              refine zr_iload_n hO (hl := rfl) (j := 1) (hi := rfl) dX3_move_90 ?_
              refine zr_icmp_gt hO ⟨by omega, by omega⟩ ⟨by omega, by omega⟩ (tgt := 98) dX3_move_91 rfl (fun c91 => ?_) (fun c91 => ?_)
              · skip
                refine zr_iload_n hO (hl := rfl) (j := 3) (hi := rfl) dX3_move_98 ?_
                refine zr_iload_n hO (hl := rfl) (j := 2) (hi := rfl) dX3_move_99 ?_
                refine zr_iload_n hO (hl := rfl) (j := 1) (hi := rfl) dX3_move_100 ?_
                refine zr_isub hO dX3_move_101 ?_
                refine zr_iconst hO dX3_move_102 ?_
                refine zr_iadd hO dX3_move_103 ?_
                refine zr_isub hO dX3_move_104 ?_
                exact zr_ireturn hO dX3_move_105 ⟨(by rw [if_pos c61, if_neg (by omega)]), (zuS (zuA (zuS σ 0 (if (zB ((1 ≤ f ∧ f ≤ g 0) ∧ (1 ≤ t ∧ t ≤ g 0) ∧ (1 ≤ b9 ∧ b9 ≤ g 0 + 1))) = 0 then 1 else 2 - 2 * (zB (f ≤ t ∧ (b9 ≤ f ∨ t < b9))))) 3 (grem A g u)) 6 (gret u)), (rfl), (by rw [if_pos c61, if_neg (by omega)]; exact zCo.eq ((((zCo.refl σ).uS (k := 0) (by decide) (if (zB ((1 ≤ f ∧ f ≤ g 0) ∧ (1 ≤ t ∧ t ≤ g 0) ∧ (1 ≤ b9 ∧ b9 ≤ g 0 + 1))) = 0 then 1 else 2 - 2 * (zB (f ≤ t ∧ (b9 ≤ f ∨ t < b9))))).cA 3 (grem A g u)).cS 6 (gret u)) (fun k => by simp only [zuS, zuA, zset] <;> (repeat' split) <;> first | rfl | omega) (fun k hk => by simp only [zuS, zuA, zset] <;> (repeat' split) <;> first | rfl | omega)), hf⟩
              · skip
                refine zr_iload_n hO (hl := rfl) (j := 3) (hi := rfl) dX3_move_94 ?_
                refine zr_goto hO (tgt := 105) dX3_move_95 rfl ?_
                exact zr_ireturn hO dX3_move_105 ⟨(by rw [if_pos c61, if_pos (by omega)]), (zuS (zuA (zuS σ 0 (if (zB ((1 ≤ f ∧ f ≤ g 0) ∧ (1 ≤ t ∧ t ≤ g 0) ∧ (1 ≤ b9 ∧ b9 ≤ g 0 + 1))) = 0 then 1 else 2 - 2 * (zB (f ≤ t ∧ (b9 ≤ f ∨ t < b9))))) 3 (grem A g u)) 6 (gret u)), (rfl), (by rw [if_pos c61, if_neg (by omega)]; exact zCo.eq ((((zCo.refl σ).uS (k := 0) (by decide) (if (zB ((1 ≤ f ∧ f ≤ g 0) ∧ (1 ≤ t ∧ t ≤ g 0) ∧ (1 ≤ b9 ∧ b9 ≤ g 0 + 1))) = 0 then 1 else 2 - 2 * (zB (f ≤ t ∧ (b9 ≤ f ∨ t < b9))))).cA 3 (grem A g u)).cS 6 (gret u)) (fun k => by simp only [zuS, zuA, zset] <;> (repeat' split) <;> first | rfl | omega) (fun k hk => by simp only [zuS, zuA, zset] <;> (repeat' split) <;> first | rfl | omega)), hf⟩
            · skip
              refine zr_aload_n hO (hl := rfl) (j := 0) (hi := rfl) dX3_move_82 ?_
              refine zr_iload_n hO (hl := rfl) (j := 1) (hi := rfl) dX3_move_83 ?_
              refine zr_iload_n hO (hl := rfl) (j := 2) (hi := rfl) dX3_move_84 ?_
              refine zr_iload_n hO (hl := rfl) (j := 3) (hi := rfl) dX3_move_85 ?_
              refine zr_cVv hO zc_X3 zw_X3_287 (c_X3_goes hI hf hg ho hm9 f t b9 (by omega) (by omega) (by omega) (by omega) (by omega) (by omega) (by omega)) dX3_move_86 (zrd_of hf.1) rfl (rest := []) rfl ⟨Nat.le_of_ble_eq_true rfl, Nat.le_of_ble_eq_true rfl⟩ (Nat.le_of_ble_eq_true rfl) (Nat.le_refl _) (Nat.le_refl _) (fun h hx => ?_)
              have hf : zRf r ad (zuA (zuA (zuA (zuS (zuA (zuS σ 0 (if (zB ((1 ≤ f ∧ f ≤ g 0) ∧ (1 ≤ t ∧ t ≤ g 0) ∧ (1 ≤ b9 ∧ b9 ≤ g 0 + 1))) = 0 then 1 else 2 - 2 * (zB (f ≤ t ∧ (b9 ≤ f ∨ t < b9))))) 3 (grem A g u)) 6 (gret u)) 27 (ggo (g 0) f t b9 o)) 28 (gmvd g (ggo (g 0) f t b9 o) m9 (27 * g 0))) 1 (garr g (ggo (g 0) f t b9 o) (27 * g 0))) h0 h := hx
              clear hx
              refine zr_iload_n hO (hl := rfl) (j := 3) (hi := rfl) dX3_move_89 ?_
              refine zr_iload_n hO (hl := rfl) (j := 1) (hi := rfl) dX3_move_90 ?_
              refine zr_icmp_gt hO ⟨by omega, by omega⟩ ⟨by omega, by omega⟩ (tgt := 98) dX3_move_91 rfl (fun c91 => ?_) (fun c91 => ?_)
              · skip
                refine zr_iload_n hO (hl := rfl) (j := 3) (hi := rfl) dX3_move_98 ?_
                refine zr_iload_n hO (hl := rfl) (j := 2) (hi := rfl) dX3_move_99 ?_
                refine zr_iload_n hO (hl := rfl) (j := 1) (hi := rfl) dX3_move_100 ?_
                refine zr_isub hO dX3_move_101 ?_
                refine zr_iconst hO dX3_move_102 ?_
                refine zr_iadd hO dX3_move_103 ?_
                refine zr_isub hO dX3_move_104 ?_
                exact zr_ireturn hO dX3_move_105 ⟨(by rw [if_pos c61, if_neg (by omega)]), (zuA (zuA (zuA (zuS (zuA (zuS σ 0 (if (zB ((1 ≤ f ∧ f ≤ g 0) ∧ (1 ≤ t ∧ t ≤ g 0) ∧ (1 ≤ b9 ∧ b9 ≤ g 0 + 1))) = 0 then 1 else 2 - 2 * (zB (f ≤ t ∧ (b9 ≤ f ∨ t < b9))))) 3 (grem A g u)) 6 (gret u)) 27 (ggo (g 0) f t b9 o)) 28 (gmvd g (ggo (g 0) f t b9 o) m9 (27 * g 0))) 1 (garr g (ggo (g 0) f t b9 o) (27 * g 0))), (rfl), (by rw [if_pos c61, if_pos (by omega)]; exact zCo.eq (((((((zCo.refl σ).uS (k := 0) (by decide) (if (zB ((1 ≤ f ∧ f ≤ g 0) ∧ (1 ≤ t ∧ t ≤ g 0) ∧ (1 ≤ b9 ∧ b9 ≤ g 0 + 1))) = 0 then 1 else 2 - 2 * (zB (f ≤ t ∧ (b9 ≤ f ∨ t < b9))))).cA 3 (grem A g u)).cS 6 (gret u)).uA (k := 27) rfl (ggo (g 0) f t b9 o)).uA (k := 28) rfl (gmvd g (ggo (g 0) f t b9 o) m9 (27 * g 0))).cA 1 (garr g (ggo (g 0) f t b9 o) (27 * g 0))) (fun k => by simp only [zuS, zuA, zset] <;> (repeat' split) <;> first | rfl | omega) (fun k hk => by simp only [zuS, zuA, zset] <;> (repeat' split) <;> first | rfl | omega)), hf⟩
              · skip
                refine zr_iload_n hO (hl := rfl) (j := 3) (hi := rfl) dX3_move_94 ?_
                refine zr_goto hO (tgt := 105) dX3_move_95 rfl ?_
                exact zr_ireturn hO dX3_move_105 ⟨(by rw [if_pos c61, if_pos (by omega)]), (zuA (zuA (zuA (zuS (zuA (zuS σ 0 (if (zB ((1 ≤ f ∧ f ≤ g 0) ∧ (1 ≤ t ∧ t ≤ g 0) ∧ (1 ≤ b9 ∧ b9 ≤ g 0 + 1))) = 0 then 1 else 2 - 2 * (zB (f ≤ t ∧ (b9 ≤ f ∨ t < b9))))) 3 (grem A g u)) 6 (gret u)) 27 (ggo (g 0) f t b9 o)) 28 (gmvd g (ggo (g 0) f t b9 o) m9 (27 * g 0))) 1 (garr g (ggo (g 0) f t b9 o) (27 * g 0))), (rfl), (by rw [if_pos c61, if_pos (by omega)]; exact zCo.eq (((((((zCo.refl σ).uS (k := 0) (by decide) (if (zB ((1 ≤ f ∧ f ≤ g 0) ∧ (1 ≤ t ∧ t ≤ g 0) ∧ (1 ≤ b9 ∧ b9 ≤ g 0 + 1))) = 0 then 1 else 2 - 2 * (zB (f ≤ t ∧ (b9 ≤ f ∨ t < b9))))).cA 3 (grem A g u)).cS 6 (gret u)).uA (k := 27) rfl (ggo (g 0) f t b9 o)).uA (k := 28) rfl (gmvd g (ggo (g 0) f t b9 o) m9 (27 * g 0))).cA 1 (garr g (ggo (g 0) f t b9 o) (27 * g 0))) (fun k => by simp only [zuS, zuA, zset] <;> (repeat' split) <;> first | rfl | omega) (fun k hk => by simp only [zuS, zuA, zset] <;> (repeat' split) <;> first | rfl | omega)), hf⟩
        · skip
          have c61 := zB_eq c61
          refine zr_iconst hO dX3_move_64 ?_
          exact zr_ireturn hO dX3_move_65 ⟨(by rw [if_neg c61]), (zuS σ 0 (if (zB ((1 ≤ f ∧ f ≤ g 0) ∧ (1 ≤ t ∧ t ≤ g 0) ∧ (1 ≤ b9 ∧ b9 ≤ g 0 + 1))) = 0 then 1 else 2 - 2 * (zB (f ≤ t ∧ (b9 ≤ f ∨ t < b9))))), (rfl), (by rw [if_neg c61]; exact ((zCo.refl σ).uS (k := 0) (by decide) (if (zB ((1 ≤ f ∧ f ≤ g 0) ∧ (1 ≤ t ∧ t ≤ g 0) ∧ (1 ≤ b9 ∧ b9 ≤ g 0 + 1))) = 0 then 1 else 2 - 2 * (zB (f ≤ t ∧ (b9 ≤ f ∨ t < b9)))))), hf⟩
      exact hj38 0 ((zB_f (by omega)).symm) h hf
    · skip
      have c14 := zB_ne c14
      refine zr_iload_n hO (hl := rfl) (j := 3) (hi := rfl) dX3_move_17 ?_
      refine zr_iconst hO dX3_move_18 ?_
      refine zr_aload_n hO (hl := rfl) (j := 0) (hi := rfl) dX3_move_19 ?_
      refine zs_arr hO hf 1 dX3_move_20 q2971 (Nat.le_of_ble_eq_true rfl) rfl ?_
      refine zr_iconst hO dX3_move_23 ?_
      refine zs_ild hO hf 1 (f := g) (n := 2195) (j := 0) dX3_move_24 rfl rfl rfl hg (by omega) (by omega) rfl (fun ⟨r6a, r6b⟩ => ?_)
      refine zr_iconst hO dX3_move_25 ?_
      refine zr_iadd hO dX3_move_26 ?_
      refine zr_cSi hO zw_X3_95 (c_X3_in b9 1 ((g 0) + 1) (⟨by omega, by omega⟩) (⟨by omega, by omega⟩) (⟨by omega, by omega⟩)) dX3_move_27 rfl (rest := [zp r]) rfl ⟨Nat.le_of_ble_eq_true rfl, Nat.le_of_ble_eq_true rfl⟩ (Nat.le_of_ble_eq_true rfl) (Nat.le_refl _) (Nat.le_refl _) (fun x h hx => ?_)
      obtain ⟨hx, rfl⟩ := hx
      have hx : x = zB (1 ≤ b9 ∧ b9 ≤ ((g 0) + 1)) := hx
      subst hx
      refine zr_if_eq hO (zR_B _) (tgt := 37) dX3_move_30 rfl (fun c30 => ?_) (fun c30 => ?_)
      · skip
        have c30 := zB_eq c30
        refine zr_iconst hO dX3_move_37 ?_
        have hj58 : ∀ (d : Int) (hd : d = zB (f ≤ t ∧ (b9 ≤ f ∨ t < b9))) (h : zHp) (hf : zRf r ad σ h0 h), zV G K 0 0 h 58 [(0, zp r), (1, zi f), (2, zi t), (3, zi b9)] [zi d, zi (zB ((1 ≤ f ∧ f ≤ g 0) ∧ (1 ≤ t ∧ t ≤ g 0) ∧ (1 ≤ b9 ∧ b9 ≤ g 0 + 1))), zp r] := by
          intro d hd h hf
          subst hd
          refine zr_cVi hO zc_X3 zw_X3_170 (c_X3_mayBoth hI hf (zB ((1 ≤ f ∧ f ≤ g 0) ∧ (1 ≤ t ∧ t ≤ g 0) ∧ (1 ≤ b9 ∧ b9 ≤ g 0 + 1))) (zB (f ≤ t ∧ (b9 ≤ f ∨ t < b9))) (zB_01 _) (zB_01 _)) dX3_move_58 (zrd_of hf.1) rfl (rest := []) rfl ⟨Nat.le_of_ble_eq_true rfl, Nat.le_of_ble_eq_true rfl⟩ (Nat.le_of_ble_eq_true rfl) (Nat.le_refl _) (Nat.le_refl _) (fun x h hx => ?_)
          obtain ⟨hx, hf⟩ := hx
          have hx : x = zB ((zB ((1 ≤ f ∧ f ≤ g 0) ∧ (1 ≤ t ∧ t ≤ g 0) ∧ (1 ≤ b9 ∧ b9 ≤ g 0 + 1))) = 1 ∧ (zB (f ≤ t ∧ (b9 ≤ f ∨ t < b9))) = 1) := hx
          subst hx
          have hf : zRf r ad (zuS σ 0 (if (zB ((1 ≤ f ∧ f ≤ g 0) ∧ (1 ≤ t ∧ t ≤ g 0) ∧ (1 ≤ b9 ∧ b9 ≤ g 0 + 1))) = 0 then 1 else 2 - 2 * (zB (f ≤ t ∧ (b9 ≤ f ∨ t < b9))))) h0 h := hf
          rw [show (zB ((zB ((1 ≤ f ∧ f ≤ g 0) ∧ (1 ≤ t ∧ t ≤ g 0) ∧ (1 ≤ b9 ∧ b9 ≤ g 0 + 1))) = 1 ∧ (zB (f ≤ t ∧ (b9 ≤ f ∨ t < b9))) = 1)) = zB (((1 ≤ f ∧ f ≤ g 0) ∧ (1 ≤ t ∧ t ≤ g 0) ∧ (1 ≤ b9 ∧ b9 ≤ g 0 + 1)) ∧ (f ≤ t ∧ (b9 ≤ f ∨ t < b9))) from zB_and _ _]
          refine zr_if_ne hO (zR_B _) (tgt := 66) dX3_move_61 rfl (fun c61 => ?_) (fun c61 => ?_)
          · skip
            have c61 := zB_ne c61
            refine zr_aload_n hO (hl := rfl) (j := 0) (hi := rfl) dX3_move_66 ?_
            refine zr_cVv hO zc_X3 zw_X3_294 (c_X3_remembers hI hf hg hA hu  (by omega) (by omega)) dX3_move_67 (zrd_of hf.1) rfl (rest := []) rfl ⟨Nat.le_of_ble_eq_true rfl, Nat.le_of_ble_eq_true rfl⟩ (Nat.le_of_ble_eq_true rfl) (Nat.le_refl _) (Nat.le_refl _) (fun h hx => ?_)
            have hf : zRf r ad (zuS (zuA (zuS σ 0 (if (zB ((1 ≤ f ∧ f ≤ g 0) ∧ (1 ≤ t ∧ t ≤ g 0) ∧ (1 ≤ b9 ∧ b9 ≤ g 0 + 1))) = 0 then 1 else 2 - 2 * (zB (f ≤ t ∧ (b9 ≤ f ∨ t < b9))))) 3 (grem A g u)) 6 (gret u)) h0 h := hx
            clear hx
            refine zr_iload_n hO (hl := rfl) (j := 3) (hi := rfl) dX3_move_70 ?_
            refine zr_iload_n hO (hl := rfl) (j := 1) (hi := rfl) dX3_move_71 ?_
            refine zr_icmp_lt hO ⟨by omega, by omega⟩ ⟨by omega, by omega⟩ (tgt := 82) dX3_move_72 rfl (fun c72 => ?_) (fun c72 => ?_)
            · skip
              refine zr_aload_n hO (hl := rfl) (j := 0) (hi := rfl) dX3_move_82 ?_
              refine zr_iload_n hO (hl := rfl) (j := 1) (hi := rfl) dX3_move_83 ?_
              refine zr_iload_n hO (hl := rfl) (j := 2) (hi := rfl) dX3_move_84 ?_
              refine zr_iload_n hO (hl := rfl) (j := 3) (hi := rfl) dX3_move_85 ?_
              refine zr_cVv hO zc_X3 zw_X3_287 (c_X3_goes hI hf hg ho hm9 f t b9 (by omega) (by omega) (by omega) (by omega) (by omega) (by omega) (by omega)) dX3_move_86 (zrd_of hf.1) rfl (rest := []) rfl ⟨Nat.le_of_ble_eq_true rfl, Nat.le_of_ble_eq_true rfl⟩ (Nat.le_of_ble_eq_true rfl) (Nat.le_refl _) (Nat.le_refl _) (fun h hx => ?_)
              have hf : zRf r ad (zuA (zuA (zuA (zuS (zuA (zuS σ 0 (if (zB ((1 ≤ f ∧ f ≤ g 0) ∧ (1 ≤ t ∧ t ≤ g 0) ∧ (1 ≤ b9 ∧ b9 ≤ g 0 + 1))) = 0 then 1 else 2 - 2 * (zB (f ≤ t ∧ (b9 ≤ f ∨ t < b9))))) 3 (grem A g u)) 6 (gret u)) 27 (ggo (g 0) f t b9 o)) 28 (gmvd g (ggo (g 0) f t b9 o) m9 (27 * g 0))) 1 (garr g (ggo (g 0) f t b9 o) (27 * g 0))) h0 h := hx
              clear hx
              refine zr_iload_n hO (hl := rfl) (j := 3) (hi := rfl) dX3_move_89 ?_
              refine zr_iload_n hO (hl := rfl) (j := 1) (hi := rfl) dX3_move_90 ?_
              refine zr_icmp_gt hO ⟨by omega, by omega⟩ ⟨by omega, by omega⟩ (tgt := 98) dX3_move_91 rfl (fun c91 => ?_) (fun c91 => ?_)
              · skip
                refine zr_iload_n hO (hl := rfl) (j := 3) (hi := rfl) dX3_move_98 ?_
                refine zr_iload_n hO (hl := rfl) (j := 2) (hi := rfl) dX3_move_99 ?_
                refine zr_iload_n hO (hl := rfl) (j := 1) (hi := rfl) dX3_move_100 ?_
                refine zr_isub hO dX3_move_101 ?_
                refine zr_iconst hO dX3_move_102 ?_
                refine zr_iadd hO dX3_move_103 ?_
                refine zr_isub hO dX3_move_104 ?_
                exact zr_ireturn hO dX3_move_105 ⟨(by rw [if_pos c61, if_neg (by omega)]), (zuA (zuA (zuA (zuS (zuA (zuS σ 0 (if (zB ((1 ≤ f ∧ f ≤ g 0) ∧ (1 ≤ t ∧ t ≤ g 0) ∧ (1 ≤ b9 ∧ b9 ≤ g 0 + 1))) = 0 then 1 else 2 - 2 * (zB (f ≤ t ∧ (b9 ≤ f ∨ t < b9))))) 3 (grem A g u)) 6 (gret u)) 27 (ggo (g 0) f t b9 o)) 28 (gmvd g (ggo (g 0) f t b9 o) m9 (27 * g 0))) 1 (garr g (ggo (g 0) f t b9 o) (27 * g 0))), (rfl), (by rw [if_pos c61, if_pos (by omega)]; exact zCo.eq (((((((zCo.refl σ).uS (k := 0) (by decide) (if (zB ((1 ≤ f ∧ f ≤ g 0) ∧ (1 ≤ t ∧ t ≤ g 0) ∧ (1 ≤ b9 ∧ b9 ≤ g 0 + 1))) = 0 then 1 else 2 - 2 * (zB (f ≤ t ∧ (b9 ≤ f ∨ t < b9))))).cA 3 (grem A g u)).cS 6 (gret u)).uA (k := 27) rfl (ggo (g 0) f t b9 o)).uA (k := 28) rfl (gmvd g (ggo (g 0) f t b9 o) m9 (27 * g 0))).cA 1 (garr g (ggo (g 0) f t b9 o) (27 * g 0))) (fun k => by simp only [zuS, zuA, zset] <;> (repeat' split) <;> first | rfl | omega) (fun k hk => by simp only [zuS, zuA, zset] <;> (repeat' split) <;> first | rfl | omega)), hf⟩
              · skip
                refine zr_iload_n hO (hl := rfl) (j := 3) (hi := rfl) dX3_move_94 ?_
                refine zr_goto hO (tgt := 105) dX3_move_95 rfl ?_
                exact zr_ireturn hO dX3_move_105 ⟨(by rw [if_pos c61, if_pos (by omega)]), (zuA (zuA (zuA (zuS (zuA (zuS σ 0 (if (zB ((1 ≤ f ∧ f ≤ g 0) ∧ (1 ≤ t ∧ t ≤ g 0) ∧ (1 ≤ b9 ∧ b9 ≤ g 0 + 1))) = 0 then 1 else 2 - 2 * (zB (f ≤ t ∧ (b9 ≤ f ∨ t < b9))))) 3 (grem A g u)) 6 (gret u)) 27 (ggo (g 0) f t b9 o)) 28 (gmvd g (ggo (g 0) f t b9 o) m9 (27 * g 0))) 1 (garr g (ggo (g 0) f t b9 o) (27 * g 0))), (rfl), (by rw [if_pos c61, if_pos (by omega)]; exact zCo.eq (((((((zCo.refl σ).uS (k := 0) (by decide) (if (zB ((1 ≤ f ∧ f ≤ g 0) ∧ (1 ≤ t ∧ t ≤ g 0) ∧ (1 ≤ b9 ∧ b9 ≤ g 0 + 1))) = 0 then 1 else 2 - 2 * (zB (f ≤ t ∧ (b9 ≤ f ∨ t < b9))))).cA 3 (grem A g u)).cS 6 (gret u)).uA (k := 27) rfl (ggo (g 0) f t b9 o)).uA (k := 28) rfl (gmvd g (ggo (g 0) f t b9 o) m9 (27 * g 0))).cA 1 (garr g (ggo (g 0) f t b9 o) (27 * g 0))) (fun k => by simp only [zuS, zuA, zset] <;> (repeat' split) <;> first | rfl | omega) (fun k hk => by simp only [zuS, zuA, zset] <;> (repeat' split) <;> first | rfl | omega)), hf⟩
            · skip
              refine zr_iload_n hO (hl := rfl) (j := 3) (hi := rfl) dX3_move_75 ?_
              refine zr_iload_n hO (hl := rfl) (j := 2) (hi := rfl) dX3_move_76 ?_
              refine zr_iconst hO dX3_move_77 ?_
              refine zr_iadd hO dX3_move_78 ?_
              refine zr_icmp_le hO ⟨by omega, by omega⟩ ⟨by omega, by omega⟩ (tgt := 89) dX3_move_79 rfl (fun c79 => ?_) (fun c79 => ?_)
              · skip
                refine zr_iload_n hO (hl := rfl) (j := 3) (hi := rfl) dX3_move_89 ?_
                refine zr_iload_n hO (hl := rfl) (j := 1) (hi := rfl) dX3_move_90 ?_
                refine zr_icmp_gt hO ⟨by omega, by omega⟩ ⟨by omega, by omega⟩ (tgt := 98) dX3_move_91 rfl (fun c91 => ?_) (fun c91 => ?_)
                · skip
                  refine zr_iload_n hO (hl := rfl) (j := 3) (hi := rfl) dX3_move_98 ?_
                  refine zr_iload_n hO (hl := rfl) (j := 2) (hi := rfl) dX3_move_99 ?_
                  refine zr_iload_n hO (hl := rfl) (j := 1) (hi := rfl) dX3_move_100 ?_
                  refine zr_isub hO dX3_move_101 ?_
                  refine zr_iconst hO dX3_move_102 ?_
                  refine zr_iadd hO dX3_move_103 ?_
                  refine zr_isub hO dX3_move_104 ?_
                  exact zr_ireturn hO dX3_move_105 ⟨(by rw [if_pos c61, if_neg (by omega)]), (zuS (zuA (zuS σ 0 (if (zB ((1 ≤ f ∧ f ≤ g 0) ∧ (1 ≤ t ∧ t ≤ g 0) ∧ (1 ≤ b9 ∧ b9 ≤ g 0 + 1))) = 0 then 1 else 2 - 2 * (zB (f ≤ t ∧ (b9 ≤ f ∨ t < b9))))) 3 (grem A g u)) 6 (gret u)), (rfl), (by rw [if_pos c61, if_neg (by omega)]; exact zCo.eq ((((zCo.refl σ).uS (k := 0) (by decide) (if (zB ((1 ≤ f ∧ f ≤ g 0) ∧ (1 ≤ t ∧ t ≤ g 0) ∧ (1 ≤ b9 ∧ b9 ≤ g 0 + 1))) = 0 then 1 else 2 - 2 * (zB (f ≤ t ∧ (b9 ≤ f ∨ t < b9))))).cA 3 (grem A g u)).cS 6 (gret u)) (fun k => by simp only [zuS, zuA, zset] <;> (repeat' split) <;> first | rfl | omega) (fun k hk => by simp only [zuS, zuA, zset] <;> (repeat' split) <;> first | rfl | omega)), hf⟩
                · skip
                  refine zr_iload_n hO (hl := rfl) (j := 3) (hi := rfl) dX3_move_94 ?_
                  refine zr_goto hO (tgt := 105) dX3_move_95 rfl ?_
                  exact zr_ireturn hO dX3_move_105 ⟨(by rw [if_pos c61, if_pos (by omega)]), (zuS (zuA (zuS σ 0 (if (zB ((1 ≤ f ∧ f ≤ g 0) ∧ (1 ≤ t ∧ t ≤ g 0) ∧ (1 ≤ b9 ∧ b9 ≤ g 0 + 1))) = 0 then 1 else 2 - 2 * (zB (f ≤ t ∧ (b9 ≤ f ∨ t < b9))))) 3 (grem A g u)) 6 (gret u)), (rfl), (by rw [if_pos c61, if_neg (by omega)]; exact zCo.eq ((((zCo.refl σ).uS (k := 0) (by decide) (if (zB ((1 ≤ f ∧ f ≤ g 0) ∧ (1 ≤ t ∧ t ≤ g 0) ∧ (1 ≤ b9 ∧ b9 ≤ g 0 + 1))) = 0 then 1 else 2 - 2 * (zB (f ≤ t ∧ (b9 ≤ f ∨ t < b9))))).cA 3 (grem A g u)).cS 6 (gret u)) (fun k => by simp only [zuS, zuA, zset] <;> (repeat' split) <;> first | rfl | omega) (fun k hk => by simp only [zuS, zuA, zset] <;> (repeat' split) <;> first | rfl | omega)), hf⟩
              · skip
                refine zr_aload_n hO (hl := rfl) (j := 0) (hi := rfl) dX3_move_82 ?_
                refine zr_iload_n hO (hl := rfl) (j := 1) (hi := rfl) dX3_move_83 ?_
                refine zr_iload_n hO (hl := rfl) (j := 2) (hi := rfl) dX3_move_84 ?_
                refine zr_iload_n hO (hl := rfl) (j := 3) (hi := rfl) dX3_move_85 ?_
                refine zr_cVv hO zc_X3 zw_X3_287 (c_X3_goes hI hf hg ho hm9 f t b9 (by omega) (by omega) (by omega) (by omega) (by omega) (by omega) (by omega)) dX3_move_86 (zrd_of hf.1) rfl (rest := []) rfl ⟨Nat.le_of_ble_eq_true rfl, Nat.le_of_ble_eq_true rfl⟩ (Nat.le_of_ble_eq_true rfl) (Nat.le_refl _) (Nat.le_refl _) (fun h hx => ?_)
                have hf : zRf r ad (zuA (zuA (zuA (zuS (zuA (zuS σ 0 (if (zB ((1 ≤ f ∧ f ≤ g 0) ∧ (1 ≤ t ∧ t ≤ g 0) ∧ (1 ≤ b9 ∧ b9 ≤ g 0 + 1))) = 0 then 1 else 2 - 2 * (zB (f ≤ t ∧ (b9 ≤ f ∨ t < b9))))) 3 (grem A g u)) 6 (gret u)) 27 (ggo (g 0) f t b9 o)) 28 (gmvd g (ggo (g 0) f t b9 o) m9 (27 * g 0))) 1 (garr g (ggo (g 0) f t b9 o) (27 * g 0))) h0 h := hx
                clear hx
                refine zr_iload_n hO (hl := rfl) (j := 3) (hi := rfl) dX3_move_89 ?_
                refine zr_iload_n hO (hl := rfl) (j := 1) (hi := rfl) dX3_move_90 ?_
                refine zr_icmp_gt hO ⟨by omega, by omega⟩ ⟨by omega, by omega⟩ (tgt := 98) dX3_move_91 rfl (fun c91 => ?_) (fun c91 => ?_)
                · skip
                  refine zr_iload_n hO (hl := rfl) (j := 3) (hi := rfl) dX3_move_98 ?_
                  refine zr_iload_n hO (hl := rfl) (j := 2) (hi := rfl) dX3_move_99 ?_
                  refine zr_iload_n hO (hl := rfl) (j := 1) (hi := rfl) dX3_move_100 ?_
                  refine zr_isub hO dX3_move_101 ?_
                  refine zr_iconst hO dX3_move_102 ?_
                  refine zr_iadd hO dX3_move_103 ?_
                  refine zr_isub hO dX3_move_104 ?_
                  exact zr_ireturn hO dX3_move_105 ⟨(by rw [if_pos c61, if_neg (by omega)]), (zuA (zuA (zuA (zuS (zuA (zuS σ 0 (if (zB ((1 ≤ f ∧ f ≤ g 0) ∧ (1 ≤ t ∧ t ≤ g 0) ∧ (1 ≤ b9 ∧ b9 ≤ g 0 + 1))) = 0 then 1 else 2 - 2 * (zB (f ≤ t ∧ (b9 ≤ f ∨ t < b9))))) 3 (grem A g u)) 6 (gret u)) 27 (ggo (g 0) f t b9 o)) 28 (gmvd g (ggo (g 0) f t b9 o) m9 (27 * g 0))) 1 (garr g (ggo (g 0) f t b9 o) (27 * g 0))), (rfl), (by rw [if_pos c61, if_pos (by omega)]; exact zCo.eq (((((((zCo.refl σ).uS (k := 0) (by decide) (if (zB ((1 ≤ f ∧ f ≤ g 0) ∧ (1 ≤ t ∧ t ≤ g 0) ∧ (1 ≤ b9 ∧ b9 ≤ g 0 + 1))) = 0 then 1 else 2 - 2 * (zB (f ≤ t ∧ (b9 ≤ f ∨ t < b9))))).cA 3 (grem A g u)).cS 6 (gret u)).uA (k := 27) rfl (ggo (g 0) f t b9 o)).uA (k := 28) rfl (gmvd g (ggo (g 0) f t b9 o) m9 (27 * g 0))).cA 1 (garr g (ggo (g 0) f t b9 o) (27 * g 0))) (fun k => by simp only [zuS, zuA, zset] <;> (repeat' split) <;> first | rfl | omega) (fun k hk => by simp only [zuS, zuA, zset] <;> (repeat' split) <;> first | rfl | omega)), hf⟩
                · skip
                  refine zr_iload_n hO (hl := rfl) (j := 3) (hi := rfl) dX3_move_94 ?_
                  refine zr_goto hO (tgt := 105) dX3_move_95 rfl ?_
                  exact zr_ireturn hO dX3_move_105 ⟨(by rw [if_pos c61, if_pos (by omega)]), (zuA (zuA (zuA (zuS (zuA (zuS σ 0 (if (zB ((1 ≤ f ∧ f ≤ g 0) ∧ (1 ≤ t ∧ t ≤ g 0) ∧ (1 ≤ b9 ∧ b9 ≤ g 0 + 1))) = 0 then 1 else 2 - 2 * (zB (f ≤ t ∧ (b9 ≤ f ∨ t < b9))))) 3 (grem A g u)) 6 (gret u)) 27 (ggo (g 0) f t b9 o)) 28 (gmvd g (ggo (g 0) f t b9 o) m9 (27 * g 0))) 1 (garr g (ggo (g 0) f t b9 o) (27 * g 0))), (rfl), (by rw [if_pos c61, if_pos (by omega)]; exact zCo.eq (((((((zCo.refl σ).uS (k := 0) (by decide) (if (zB ((1 ≤ f ∧ f ≤ g 0) ∧ (1 ≤ t ∧ t ≤ g 0) ∧ (1 ≤ b9 ∧ b9 ≤ g 0 + 1))) = 0 then 1 else 2 - 2 * (zB (f ≤ t ∧ (b9 ≤ f ∨ t < b9))))).cA 3 (grem A g u)).cS 6 (gret u)).uA (k := 27) rfl (ggo (g 0) f t b9 o)).uA (k := 28) rfl (gmvd g (ggo (g 0) f t b9 o) m9 (27 * g 0))).cA 1 (garr g (ggo (g 0) f t b9 o) (27 * g 0))) (fun k => by simp only [zuS, zuA, zset] <;> (repeat' split) <;> first | rfl | omega) (fun k hk => by simp only [zuS, zuA, zset] <;> (repeat' split) <;> first | rfl | omega)), hf⟩
          · skip
            have c61 := zB_eq c61
            refine zr_iconst hO dX3_move_64 ?_
            exact zr_ireturn hO dX3_move_65 ⟨(by rw [if_neg c61]), (zuS σ 0 (if (zB ((1 ≤ f ∧ f ≤ g 0) ∧ (1 ≤ t ∧ t ≤ g 0) ∧ (1 ≤ b9 ∧ b9 ≤ g 0 + 1))) = 0 then 1 else 2 - 2 * (zB (f ≤ t ∧ (b9 ≤ f ∨ t < b9))))), (rfl), (by rw [if_neg c61]; exact ((zCo.refl σ).uS (k := 0) (by decide) (if (zB ((1 ≤ f ∧ f ≤ g 0) ∧ (1 ≤ t ∧ t ≤ g 0) ∧ (1 ≤ b9 ∧ b9 ≤ g 0 + 1))) = 0 then 1 else 2 - 2 * (zB (f ≤ t ∧ (b9 ≤ f ∨ t < b9)))))), hf⟩
        exact hj38 0 ((zB_f (by omega)).symm) h hf
      · skip
        have c30 := zB_ne c30
        refine zr_iconst hO dX3_move_33 ?_
        refine zr_goto hO (tgt := 38) dX3_move_34 rfl ?_
        have hj58 : ∀ (d : Int) (hd : d = zB (f ≤ t ∧ (b9 ≤ f ∨ t < b9))) (h : zHp) (hf : zRf r ad σ h0 h), zV G K 0 0 h 58 [(0, zp r), (1, zi f), (2, zi t), (3, zi b9)] [zi d, zi (zB ((1 ≤ f ∧ f ≤ g 0) ∧ (1 ≤ t ∧ t ≤ g 0) ∧ (1 ≤ b9 ∧ b9 ≤ g 0 + 1))), zp r] := by
          intro d hd h hf
          subst hd
          refine zr_cVi hO zc_X3 zw_X3_170 (c_X3_mayBoth hI hf (zB ((1 ≤ f ∧ f ≤ g 0) ∧ (1 ≤ t ∧ t ≤ g 0) ∧ (1 ≤ b9 ∧ b9 ≤ g 0 + 1))) (zB (f ≤ t ∧ (b9 ≤ f ∨ t < b9))) (zB_01 _) (zB_01 _)) dX3_move_58 (zrd_of hf.1) rfl (rest := []) rfl ⟨Nat.le_of_ble_eq_true rfl, Nat.le_of_ble_eq_true rfl⟩ (Nat.le_of_ble_eq_true rfl) (Nat.le_refl _) (Nat.le_refl _) (fun x h hx => ?_)
          obtain ⟨hx, hf⟩ := hx
          have hx : x = zB ((zB ((1 ≤ f ∧ f ≤ g 0) ∧ (1 ≤ t ∧ t ≤ g 0) ∧ (1 ≤ b9 ∧ b9 ≤ g 0 + 1))) = 1 ∧ (zB (f ≤ t ∧ (b9 ≤ f ∨ t < b9))) = 1) := hx
          subst hx
          have hf : zRf r ad (zuS σ 0 (if (zB ((1 ≤ f ∧ f ≤ g 0) ∧ (1 ≤ t ∧ t ≤ g 0) ∧ (1 ≤ b9 ∧ b9 ≤ g 0 + 1))) = 0 then 1 else 2 - 2 * (zB (f ≤ t ∧ (b9 ≤ f ∨ t < b9))))) h0 h := hf
          rw [show (zB ((zB ((1 ≤ f ∧ f ≤ g 0) ∧ (1 ≤ t ∧ t ≤ g 0) ∧ (1 ≤ b9 ∧ b9 ≤ g 0 + 1))) = 1 ∧ (zB (f ≤ t ∧ (b9 ≤ f ∨ t < b9))) = 1)) = zB (((1 ≤ f ∧ f ≤ g 0) ∧ (1 ≤ t ∧ t ≤ g 0) ∧ (1 ≤ b9 ∧ b9 ≤ g 0 + 1)) ∧ (f ≤ t ∧ (b9 ≤ f ∨ t < b9))) from zB_and _ _]
          refine zr_if_ne hO (zR_B _) (tgt := 66) dX3_move_61 rfl (fun c61 => ?_) (fun c61 => ?_)
          · skip
            have c61 := zB_ne c61
            refine zr_aload_n hO (hl := rfl) (j := 0) (hi := rfl) dX3_move_66 ?_
            refine zr_cVv hO zc_X3 zw_X3_294 (c_X3_remembers hI hf hg hA hu  (by omega) (by omega)) dX3_move_67 (zrd_of hf.1) rfl (rest := []) rfl ⟨Nat.le_of_ble_eq_true rfl, Nat.le_of_ble_eq_true rfl⟩ (Nat.le_of_ble_eq_true rfl) (Nat.le_refl _) (Nat.le_refl _) (fun h hx => ?_)
            have hf : zRf r ad (zuS (zuA (zuS σ 0 (if (zB ((1 ≤ f ∧ f ≤ g 0) ∧ (1 ≤ t ∧ t ≤ g 0) ∧ (1 ≤ b9 ∧ b9 ≤ g 0 + 1))) = 0 then 1 else 2 - 2 * (zB (f ≤ t ∧ (b9 ≤ f ∨ t < b9))))) 3 (grem A g u)) 6 (gret u)) h0 h := hx
            clear hx
            refine zr_iload_n hO (hl := rfl) (j := 3) (hi := rfl) dX3_move_70 ?_
            refine zr_iload_n hO (hl := rfl) (j := 1) (hi := rfl) dX3_move_71 ?_
            refine zr_icmp_lt hO ⟨by omega, by omega⟩ ⟨by omega, by omega⟩ (tgt := 82) dX3_move_72 rfl (fun c72 => ?_) (fun c72 => ?_)
            · skip
              refine zr_aload_n hO (hl := rfl) (j := 0) (hi := rfl) dX3_move_82 ?_
              refine zr_iload_n hO (hl := rfl) (j := 1) (hi := rfl) dX3_move_83 ?_
              refine zr_iload_n hO (hl := rfl) (j := 2) (hi := rfl) dX3_move_84 ?_
              refine zr_iload_n hO (hl := rfl) (j := 3) (hi := rfl) dX3_move_85 ?_
              refine zr_cVv hO zc_X3 zw_X3_287 (c_X3_goes hI hf hg ho hm9 f t b9 (by omega) (by omega) (by omega) (by omega) (by omega) (by omega) (by omega)) dX3_move_86 (zrd_of hf.1) rfl (rest := []) rfl ⟨Nat.le_of_ble_eq_true rfl, Nat.le_of_ble_eq_true rfl⟩ (Nat.le_of_ble_eq_true rfl) (Nat.le_refl _) (Nat.le_refl _) (fun h hx => ?_)
              have hf : zRf r ad (zuA (zuA (zuA (zuS (zuA (zuS σ 0 (if (zB ((1 ≤ f ∧ f ≤ g 0) ∧ (1 ≤ t ∧ t ≤ g 0) ∧ (1 ≤ b9 ∧ b9 ≤ g 0 + 1))) = 0 then 1 else 2 - 2 * (zB (f ≤ t ∧ (b9 ≤ f ∨ t < b9))))) 3 (grem A g u)) 6 (gret u)) 27 (ggo (g 0) f t b9 o)) 28 (gmvd g (ggo (g 0) f t b9 o) m9 (27 * g 0))) 1 (garr g (ggo (g 0) f t b9 o) (27 * g 0))) h0 h := hx
              clear hx
              refine zr_iload_n hO (hl := rfl) (j := 3) (hi := rfl) dX3_move_89 ?_
              refine zr_iload_n hO (hl := rfl) (j := 1) (hi := rfl) dX3_move_90 ?_
              refine zr_icmp_gt hO ⟨by omega, by omega⟩ ⟨by omega, by omega⟩ (tgt := 98) dX3_move_91 rfl (fun c91 => ?_) (fun c91 => ?_)
              · skip
                refine zr_iload_n hO (hl := rfl) (j := 3) (hi := rfl) dX3_move_98 ?_
                refine zr_iload_n hO (hl := rfl) (j := 2) (hi := rfl) dX3_move_99 ?_
                refine zr_iload_n hO (hl := rfl) (j := 1) (hi := rfl) dX3_move_100 ?_
                refine zr_isub hO dX3_move_101 ?_
                refine zr_iconst hO dX3_move_102 ?_
                refine zr_iadd hO dX3_move_103 ?_
                refine zr_isub hO dX3_move_104 ?_
                exact zr_ireturn hO dX3_move_105 ⟨(by rw [if_pos c61, if_neg (by omega)]), (zuA (zuA (zuA (zuS (zuA (zuS σ 0 (if (zB ((1 ≤ f ∧ f ≤ g 0) ∧ (1 ≤ t ∧ t ≤ g 0) ∧ (1 ≤ b9 ∧ b9 ≤ g 0 + 1))) = 0 then 1 else 2 - 2 * (zB (f ≤ t ∧ (b9 ≤ f ∨ t < b9))))) 3 (grem A g u)) 6 (gret u)) 27 (ggo (g 0) f t b9 o)) 28 (gmvd g (ggo (g 0) f t b9 o) m9 (27 * g 0))) 1 (garr g (ggo (g 0) f t b9 o) (27 * g 0))), (rfl), (by rw [if_pos c61, if_pos (by omega)]; exact zCo.eq (((((((zCo.refl σ).uS (k := 0) (by decide) (if (zB ((1 ≤ f ∧ f ≤ g 0) ∧ (1 ≤ t ∧ t ≤ g 0) ∧ (1 ≤ b9 ∧ b9 ≤ g 0 + 1))) = 0 then 1 else 2 - 2 * (zB (f ≤ t ∧ (b9 ≤ f ∨ t < b9))))).cA 3 (grem A g u)).cS 6 (gret u)).uA (k := 27) rfl (ggo (g 0) f t b9 o)).uA (k := 28) rfl (gmvd g (ggo (g 0) f t b9 o) m9 (27 * g 0))).cA 1 (garr g (ggo (g 0) f t b9 o) (27 * g 0))) (fun k => by simp only [zuS, zuA, zset] <;> (repeat' split) <;> first | rfl | omega) (fun k hk => by simp only [zuS, zuA, zset] <;> (repeat' split) <;> first | rfl | omega)), hf⟩
              · skip
                refine zr_iload_n hO (hl := rfl) (j := 3) (hi := rfl) dX3_move_94 ?_
                refine zr_goto hO (tgt := 105) dX3_move_95 rfl ?_
                exact zr_ireturn hO dX3_move_105 ⟨(by rw [if_pos c61, if_pos (by omega)]), (zuA (zuA (zuA (zuS (zuA (zuS σ 0 (if (zB ((1 ≤ f ∧ f ≤ g 0) ∧ (1 ≤ t ∧ t ≤ g 0) ∧ (1 ≤ b9 ∧ b9 ≤ g 0 + 1))) = 0 then 1 else 2 - 2 * (zB (f ≤ t ∧ (b9 ≤ f ∨ t < b9))))) 3 (grem A g u)) 6 (gret u)) 27 (ggo (g 0) f t b9 o)) 28 (gmvd g (ggo (g 0) f t b9 o) m9 (27 * g 0))) 1 (garr g (ggo (g 0) f t b9 o) (27 * g 0))), (rfl), (by rw [if_pos c61, if_pos (by omega)]; exact zCo.eq (((((((zCo.refl σ).uS (k := 0) (by decide) (if (zB ((1 ≤ f ∧ f ≤ g 0) ∧ (1 ≤ t ∧ t ≤ g 0) ∧ (1 ≤ b9 ∧ b9 ≤ g 0 + 1))) = 0 then 1 else 2 - 2 * (zB (f ≤ t ∧ (b9 ≤ f ∨ t < b9))))).cA 3 (grem A g u)).cS 6 (gret u)).uA (k := 27) rfl (ggo (g 0) f t b9 o)).uA (k := 28) rfl (gmvd g (ggo (g 0) f t b9 o) m9 (27 * g 0))).cA 1 (garr g (ggo (g 0) f t b9 o) (27 * g 0))) (fun k => by simp only [zuS, zuA, zset] <;> (repeat' split) <;> first | rfl | omega) (fun k hk => by simp only [zuS, zuA, zset] <;> (repeat' split) <;> first | rfl | omega)), hf⟩
            · skip
              refine zr_iload_n hO (hl := rfl) (j := 3) (hi := rfl) dX3_move_75 ?_
              refine zr_iload_n hO (hl := rfl) (j := 2) (hi := rfl) dX3_move_76 ?_
              refine zr_iconst hO dX3_move_77 ?_
              refine zr_iadd hO dX3_move_78 ?_
              refine zr_icmp_le hO ⟨by omega, by omega⟩ ⟨by omega, by omega⟩ (tgt := 89) dX3_move_79 rfl (fun c79 => ?_) (fun c79 => ?_)
              · skip
                refine zr_iload_n hO (hl := rfl) (j := 3) (hi := rfl) dX3_move_89 ?_
                refine zr_iload_n hO (hl := rfl) (j := 1) (hi := rfl) dX3_move_90 ?_
                refine zr_icmp_gt hO ⟨by omega, by omega⟩ ⟨by omega, by omega⟩ (tgt := 98) dX3_move_91 rfl (fun c91 => ?_) (fun c91 => ?_)
                · skip
                  refine zr_iload_n hO (hl := rfl) (j := 3) (hi := rfl) dX3_move_98 ?_
                  refine zr_iload_n hO (hl := rfl) (j := 2) (hi := rfl) dX3_move_99 ?_
                  refine zr_iload_n hO (hl := rfl) (j := 1) (hi := rfl) dX3_move_100 ?_
                  refine zr_isub hO dX3_move_101 ?_
                  refine zr_iconst hO dX3_move_102 ?_
                  refine zr_iadd hO dX3_move_103 ?_
                  refine zr_isub hO dX3_move_104 ?_
                  exact zr_ireturn hO dX3_move_105 ⟨(by rw [if_pos c61, if_neg (by omega)]), (zuS (zuA (zuS σ 0 (if (zB ((1 ≤ f ∧ f ≤ g 0) ∧ (1 ≤ t ∧ t ≤ g 0) ∧ (1 ≤ b9 ∧ b9 ≤ g 0 + 1))) = 0 then 1 else 2 - 2 * (zB (f ≤ t ∧ (b9 ≤ f ∨ t < b9))))) 3 (grem A g u)) 6 (gret u)), (rfl), (by rw [if_pos c61, if_neg (by omega)]; exact zCo.eq ((((zCo.refl σ).uS (k := 0) (by decide) (if (zB ((1 ≤ f ∧ f ≤ g 0) ∧ (1 ≤ t ∧ t ≤ g 0) ∧ (1 ≤ b9 ∧ b9 ≤ g 0 + 1))) = 0 then 1 else 2 - 2 * (zB (f ≤ t ∧ (b9 ≤ f ∨ t < b9))))).cA 3 (grem A g u)).cS 6 (gret u)) (fun k => by simp only [zuS, zuA, zset] <;> (repeat' split) <;> first | rfl | omega) (fun k hk => by simp only [zuS, zuA, zset] <;> (repeat' split) <;> first | rfl | omega)), hf⟩
                · skip
                  refine zr_iload_n hO (hl := rfl) (j := 3) (hi := rfl) dX3_move_94 ?_
                  refine zr_goto hO (tgt := 105) dX3_move_95 rfl ?_
                  exact zr_ireturn hO dX3_move_105 ⟨(by rw [if_pos c61, if_pos (by omega)]), (zuS (zuA (zuS σ 0 (if (zB ((1 ≤ f ∧ f ≤ g 0) ∧ (1 ≤ t ∧ t ≤ g 0) ∧ (1 ≤ b9 ∧ b9 ≤ g 0 + 1))) = 0 then 1 else 2 - 2 * (zB (f ≤ t ∧ (b9 ≤ f ∨ t < b9))))) 3 (grem A g u)) 6 (gret u)), (rfl), (by rw [if_pos c61, if_neg (by omega)]; exact zCo.eq ((((zCo.refl σ).uS (k := 0) (by decide) (if (zB ((1 ≤ f ∧ f ≤ g 0) ∧ (1 ≤ t ∧ t ≤ g 0) ∧ (1 ≤ b9 ∧ b9 ≤ g 0 + 1))) = 0 then 1 else 2 - 2 * (zB (f ≤ t ∧ (b9 ≤ f ∨ t < b9))))).cA 3 (grem A g u)).cS 6 (gret u)) (fun k => by simp only [zuS, zuA, zset] <;> (repeat' split) <;> first | rfl | omega) (fun k hk => by simp only [zuS, zuA, zset] <;> (repeat' split) <;> first | rfl | omega)), hf⟩
              · skip
                refine zr_aload_n hO (hl := rfl) (j := 0) (hi := rfl) dX3_move_82 ?_
                refine zr_iload_n hO (hl := rfl) (j := 1) (hi := rfl) dX3_move_83 ?_
                refine zr_iload_n hO (hl := rfl) (j := 2) (hi := rfl) dX3_move_84 ?_
                refine zr_iload_n hO (hl := rfl) (j := 3) (hi := rfl) dX3_move_85 ?_
                refine zr_cVv hO zc_X3 zw_X3_287 (c_X3_goes hI hf hg ho hm9 f t b9 (by omega) (by omega) (by omega) (by omega) (by omega) (by omega) (by omega)) dX3_move_86 (zrd_of hf.1) rfl (rest := []) rfl ⟨Nat.le_of_ble_eq_true rfl, Nat.le_of_ble_eq_true rfl⟩ (Nat.le_of_ble_eq_true rfl) (Nat.le_refl _) (Nat.le_refl _) (fun h hx => ?_)
                have hf : zRf r ad (zuA (zuA (zuA (zuS (zuA (zuS σ 0 (if (zB ((1 ≤ f ∧ f ≤ g 0) ∧ (1 ≤ t ∧ t ≤ g 0) ∧ (1 ≤ b9 ∧ b9 ≤ g 0 + 1))) = 0 then 1 else 2 - 2 * (zB (f ≤ t ∧ (b9 ≤ f ∨ t < b9))))) 3 (grem A g u)) 6 (gret u)) 27 (ggo (g 0) f t b9 o)) 28 (gmvd g (ggo (g 0) f t b9 o) m9 (27 * g 0))) 1 (garr g (ggo (g 0) f t b9 o) (27 * g 0))) h0 h := hx
                clear hx
                refine zr_iload_n hO (hl := rfl) (j := 3) (hi := rfl) dX3_move_89 ?_
                refine zr_iload_n hO (hl := rfl) (j := 1) (hi := rfl) dX3_move_90 ?_
                refine zr_icmp_gt hO ⟨by omega, by omega⟩ ⟨by omega, by omega⟩ (tgt := 98) dX3_move_91 rfl (fun c91 => ?_) (fun c91 => ?_)
                · skip
                  refine zr_iload_n hO (hl := rfl) (j := 3) (hi := rfl) dX3_move_98 ?_
                  refine zr_iload_n hO (hl := rfl) (j := 2) (hi := rfl) dX3_move_99 ?_
                  refine zr_iload_n hO (hl := rfl) (j := 1) (hi := rfl) dX3_move_100 ?_
                  refine zr_isub hO dX3_move_101 ?_
                  refine zr_iconst hO dX3_move_102 ?_
                  refine zr_iadd hO dX3_move_103 ?_
                  refine zr_isub hO dX3_move_104 ?_
                  exact zr_ireturn hO dX3_move_105 ⟨(by rw [if_pos c61, if_neg (by omega)]), (zuA (zuA (zuA (zuS (zuA (zuS σ 0 (if (zB ((1 ≤ f ∧ f ≤ g 0) ∧ (1 ≤ t ∧ t ≤ g 0) ∧ (1 ≤ b9 ∧ b9 ≤ g 0 + 1))) = 0 then 1 else 2 - 2 * (zB (f ≤ t ∧ (b9 ≤ f ∨ t < b9))))) 3 (grem A g u)) 6 (gret u)) 27 (ggo (g 0) f t b9 o)) 28 (gmvd g (ggo (g 0) f t b9 o) m9 (27 * g 0))) 1 (garr g (ggo (g 0) f t b9 o) (27 * g 0))), (rfl), (by rw [if_pos c61, if_pos (by omega)]; exact zCo.eq (((((((zCo.refl σ).uS (k := 0) (by decide) (if (zB ((1 ≤ f ∧ f ≤ g 0) ∧ (1 ≤ t ∧ t ≤ g 0) ∧ (1 ≤ b9 ∧ b9 ≤ g 0 + 1))) = 0 then 1 else 2 - 2 * (zB (f ≤ t ∧ (b9 ≤ f ∨ t < b9))))).cA 3 (grem A g u)).cS 6 (gret u)).uA (k := 27) rfl (ggo (g 0) f t b9 o)).uA (k := 28) rfl (gmvd g (ggo (g 0) f t b9 o) m9 (27 * g 0))).cA 1 (garr g (ggo (g 0) f t b9 o) (27 * g 0))) (fun k => by simp only [zuS, zuA, zset] <;> (repeat' split) <;> first | rfl | omega) (fun k hk => by simp only [zuS, zuA, zset] <;> (repeat' split) <;> first | rfl | omega)), hf⟩
                · skip
                  refine zr_iload_n hO (hl := rfl) (j := 3) (hi := rfl) dX3_move_94 ?_
                  refine zr_goto hO (tgt := 105) dX3_move_95 rfl ?_
                  exact zr_ireturn hO dX3_move_105 ⟨(by rw [if_pos c61, if_pos (by omega)]), (zuA (zuA (zuA (zuS (zuA (zuS σ 0 (if (zB ((1 ≤ f ∧ f ≤ g 0) ∧ (1 ≤ t ∧ t ≤ g 0) ∧ (1 ≤ b9 ∧ b9 ≤ g 0 + 1))) = 0 then 1 else 2 - 2 * (zB (f ≤ t ∧ (b9 ≤ f ∨ t < b9))))) 3 (grem A g u)) 6 (gret u)) 27 (ggo (g 0) f t b9 o)) 28 (gmvd g (ggo (g 0) f t b9 o) m9 (27 * g 0))) 1 (garr g (ggo (g 0) f t b9 o) (27 * g 0))), (rfl), (by rw [if_pos c61, if_pos (by omega)]; exact zCo.eq (((((((zCo.refl σ).uS (k := 0) (by decide) (if (zB ((1 ≤ f ∧ f ≤ g 0) ∧ (1 ≤ t ∧ t ≤ g 0) ∧ (1 ≤ b9 ∧ b9 ≤ g 0 + 1))) = 0 then 1 else 2 - 2 * (zB (f ≤ t ∧ (b9 ≤ f ∨ t < b9))))).cA 3 (grem A g u)).cS 6 (gret u)).uA (k := 27) rfl (ggo (g 0) f t b9 o)).uA (k := 28) rfl (gmvd g (ggo (g 0) f t b9 o) m9 (27 * g 0))).cA 1 (garr g (ggo (g 0) f t b9 o) (27 * g 0))) (fun k => by simp only [zuS, zuA, zset] <;> (repeat' split) <;> first | rfl | omega) (fun k hk => by simp only [zuS, zuA, zset] <;> (repeat' split) <;> first | rfl | omega)), hf⟩
          · skip
            have c61 := zB_eq c61
            refine zr_iconst hO dX3_move_64 ?_
            exact zr_ireturn hO dX3_move_65 ⟨(by rw [if_neg c61]), (zuS σ 0 (if (zB ((1 ≤ f ∧ f ≤ g 0) ∧ (1 ≤ t ∧ t ≤ g 0) ∧ (1 ≤ b9 ∧ b9 ≤ g 0 + 1))) = 0 then 1 else 2 - 2 * (zB (f ≤ t ∧ (b9 ≤ f ∨ t < b9))))), (rfl), (by rw [if_neg c61]; exact ((zCo.refl σ).uS (k := 0) (by decide) (if (zB ((1 ≤ f ∧ f ≤ g 0) ∧ (1 ≤ t ∧ t ≤ g 0) ∧ (1 ≤ b9 ∧ b9 ≤ g 0 + 1))) = 0 then 1 else 2 - 2 * (zB (f ≤ t ∧ (b9 ≤ f ∨ t < b9)))))), hf⟩
        exact hj38 1 ((zB_t (by omega)).symm) h hf
theorem c_X3_reverse {G : zG} {r : Nat} {ad : Nat → Nat} {h0 : zHp} (hI : zRI r ad) {σ : zS} {h : zHp} (hf : zRf r ad σ h0 h) {g : Nat → Int} (hg : σ.2 1 = g) {b : Nat → Int} (hb : σ.2 7 = b) {A : Nat → Int} (hA : σ.2 3 = A) {o : Nat → Int} (ho : σ.2 27 = o) {m9 : Nat → Int} (hm9 : σ.2 28 = m9) {q : Int} (hq : σ.1 8 = q) {u : Int} (hu : σ.1 6 = u) (f : Int) (t : Int) (hf9 : zR f) (ht9 : zR t) (hu1 : 0 ≤ u) (hu2 : u ≤ 8) (hq1 : 0 ≤ q) (hq2 : q ≤ 700) (hw : zwf g) : zC G yX3_reverse cX3_reverse 4 (some Jvm.ClassFile.FieldType.int) 3 65 0 0 [zp r, zi f, zi t] h (zPi (fun x h' => x = (if ((1 ≤ f ∧ f ≤ g 0) ∧ (1 ≤ t ∧ t ≤ g 0)) ∧ f ≤ t then (t - f + 1) - (t - f + 1) % 2 else 0) ∧ ∃ τ : zS, τ.1 0 = (if zB ((1 ≤ f ∧ f ≤ g 0) ∧ (1 ≤ t ∧ t ≤ g 0)) = 0 then 1 else 2 - 2 * zB (f ≤ t)) ∧ zCo (if ((1 ≤ f ∧ f ≤ g 0) ∧ (1 ≤ t ∧ t ≤ g 0)) ∧ f ≤ t then zuA (zuS (zuA σ 3 (grem A g u)) 6 (gret u)) 1 (garr g (grvo (g 0) f t o) (27 * g 0)) else σ) τ ∧ zRf r ad τ h0 h') zNo) := by
  refine zC.of zpn_X3 (Nat.le_of_ble_eq_true rfl) (L := [(0, zp r), (1, zi f), (2, zi t)]) rfl (fun K hO => ?_)
  obtain ⟨w1, w2, w3⟩ := id hw
  obtain ⟨hf9a, hf9b⟩ := hf9
  obtain ⟨ht9a, ht9b⟩ := ht9
  refine zr_aload_n hO (hl := rfl) (j := 0) (hi := rfl) dX3_reverse_0 ?_
  refine zr_iload_n hO (hl := rfl) (j := 1) (hi := rfl) dX3_reverse_1 ?_
  refine zr_iload_n hO (hl := rfl) (j := 2) (hi := rfl) dX3_reverse_2 ?_
  refine zr_cVi hO zc_X3 zw_X3_303 (c_X3_mayRange hI hf hg f t (⟨by omega, by omega⟩) (⟨by omega, by omega⟩)) dX3_reverse_3 (zrd_of hf.1) rfl (rest := []) rfl ⟨Nat.le_of_ble_eq_true rfl, Nat.le_of_ble_eq_true rfl⟩ (Nat.le_of_ble_eq_true rfl) (Nat.le_refl _) (Nat.le_refl _) (fun x h hx => ?_)
  obtain ⟨hx, hf⟩ := hx
  have hx : x = zB (((1 ≤ f ∧ f ≤ g 0) ∧ (1 ≤ t ∧ t ≤ g 0)) ∧ f ≤ t) := hx
  subst hx
  have hf : zRf r ad (zuS σ 0 (if zB ((1 ≤ f ∧ f ≤ g 0) ∧ (1 ≤ t ∧ t ≤ g 0)) = 0 then 1 else 2 - 2 * zB (f ≤ t))) h0 h := hf
  refine zr_if_ne hO (zR_B _) (tgt := 11) dX3_reverse_6 rfl (fun c6 => ?_) (fun c6 => ?_)
  · skip
    have c6 := zB_ne c6
    refine zr_aload_n hO (hl := rfl) (j := 0) (hi := rfl) dX3_reverse_11 ?_
    refine zr_cVv hO zc_X3 zw_X3_294 (c_X3_remembers hI hf hg hA hu  (by omega) (by omega)) dX3_reverse_12 (zrd_of hf.1) rfl (rest := []) rfl ⟨Nat.le_of_ble_eq_true rfl, Nat.le_of_ble_eq_true rfl⟩ (Nat.le_of_ble_eq_true rfl) (Nat.le_refl _) (Nat.le_refl _) (fun h hx => ?_)
    have hf : zRf r ad (zuS (zuA (zuS σ 0 (if zB ((1 ≤ f ∧ f ≤ g 0) ∧ (1 ≤ t ∧ t ≤ g 0)) = 0 then 1 else 2 - 2 * zB (f ≤ t))) 3 (grem A g u)) 6 (gret u)) h0 h := hx
    clear hx
    refine zr_aload_n hO (hl := rfl) (j := 0) (hi := rfl) dX3_reverse_15 ?_
    refine zr_cVv hO zc_X3 zw_X3_281 (c_X3_laysOrder hI hf hg ho  (by omega) (by omega)) dX3_reverse_16 (zrd_of hf.1) rfl (rest := []) rfl ⟨Nat.le_of_ble_eq_true rfl, Nat.le_of_ble_eq_true rfl⟩ (Nat.le_of_ble_eq_true rfl) (Nat.le_refl _) (Nat.le_refl _) (fun h hx => ?_)
    have hf : zRf r ad (zuA (zuS (zuA (zuS σ 0 (if zB ((1 ≤ f ∧ f ≤ g 0) ∧ (1 ≤ t ∧ t ≤ g 0)) = 0 then 1 else 2 - 2 * zB (f ≤ t))) 3 (grem A g u)) 6 (gret u)) 27 (gput (gblk 1 (g 0).toNat) o)) h0 h := hx
    clear hx
    refine zr_iload_n hO (hl := rfl) (j := 1) (hi := rfl) dX3_reverse_19 ?_
    refine zr_istore_n hO (L' := [(3, zi f), (0, zp r), (1, zi f), (2, zi t)]) (hi := rfl) dX3_reverse_20 (Nat.le_of_ble_eq_true rfl) rfl ?_
    have hl21 : ∀ (n9 : Nat) (k : Int), (t + 1 - k).toNat = n9 → ∀ (i1 : f ≤ k) (i2 : k ≤ t + 1) (h : zHp) (hf : zRf r ad (zuA (zuS (zuA (zuS σ 0 (if zB ((1 ≤ f ∧ f ≤ g 0) ∧ (1 ≤ t ∧ t ≤ g 0)) = 0 then 1 else 2 - 2 * zB (f ≤ t))) 3 (grem A g u)) 6 (gret u)) 27 (grv f t k (gput (gblk 1 (g 0).toNat) o))) h0 h), zV G K 0 0 h 21 [(0, zp r), (1, zi f), (2, zi t), (3, zi k)] [] := by
      intro n9
      induction n9 using Nat.strongRecOn with
      | _ n9 ih21 =>
      intro k hn21 i1 i2 h hf
      refine zr_iload_n hO (hl := rfl) (j := 3) (hi := rfl) dX3_reverse_21 ?_
      refine zr_iload_n hO (hl := rfl) (j := 2) (hi := rfl) dX3_reverse_22 ?_
      refine zr_icmp_gt hO ⟨by omega, by omega⟩ ⟨by omega, by omega⟩ (tgt := 45) dX3_reverse_23 rfl (fun c23 => ?_) (fun c23 => ?_)
      · skip
        refine zr_aload_n hO (hl := rfl) (j := 0) (hi := rfl) dX3_reverse_45 ?_
        refine zr_cVv hO zc_X3 zw_X3_284 (c_X3_arranges hI hf hg (zuA_at (zuS (zuA (zuS σ 0 (if zB ((1 ≤ f ∧ f ≤ g 0) ∧ (1 ≤ t ∧ t ≤ g 0)) = 0 then 1 else 2 - 2 * zB (f ≤ t))) 3 (grem A g u)) 6 (gret u)) 27 (grv f t k (gput (gblk 1 (g 0).toNat) o))) hm9  (by omega) (by omega) (by rw [show k = t + 1 by omega]; exact grvo_ok (by omega) (by omega) (by omega) w2 o)) dX3_reverse_46 (zrd_of hf.1) rfl (rest := []) rfl ⟨Nat.le_of_ble_eq_true rfl, Nat.le_of_ble_eq_true rfl⟩ (Nat.le_of_ble_eq_true rfl) (Nat.le_refl _) (Nat.le_refl _) (fun h hx => ?_)
        have hf : zRf r ad (zuA (zuA (zuA (zuS (zuA (zuS σ 0 (if zB ((1 ≤ f ∧ f ≤ g 0) ∧ (1 ≤ t ∧ t ≤ g 0)) = 0 then 1 else 2 - 2 * zB (f ≤ t))) 3 (grem A g u)) 6 (gret u)) 27 (grv f t k (gput (gblk 1 (g 0).toNat) o))) 28 (gmvd g (grv f t k (gput (gblk 1 (g 0).toNat) o)) m9 (27 * g 0))) 1 (garr g (grv f t k (gput (gblk 1 (g 0).toNat) o)) (27 * g 0))) h0 h := hx
        clear hx
        refine zr_iload_n hO (hl := rfl) (j := 2) (hi := rfl) dX3_reverse_49 ?_
        refine zr_iload_n hO (hl := rfl) (j := 1) (hi := rfl) dX3_reverse_50 ?_
        refine zr_isub hO dX3_reverse_51 ?_
        refine zr_iconst hO dX3_reverse_52 ?_
        refine zr_iadd hO dX3_reverse_53 ?_
        refine zr_istore_n hO (L' := [(3, zi ((t - f) + 1)), (0, zp r), (1, zi f), (2, zi t)]) (hi := rfl) dX3_reverse_54 (Nat.le_of_ble_eq_true rfl) rfl ?_
        refine zr_iload_n hO (hl := rfl) (j := 0) (hi := rfl) dX3_reverse_55 ?_
        refine zr_iload_n hO (hl := rfl) (j := 0) (hi := rfl) dX3_reverse_56 ?_
        refine zr_iconst hO dX3_reverse_57 ?_
        refine zr_irem hO (by omega) (by omega) (by omega) (by omega) dX3_reverse_58 ?_
        refine zr_isub hO dX3_reverse_59 ?_
        exact zr_ireturn hO dX3_reverse_60 ⟨(by rw [if_pos c6]), (zuA (zuA (zuA (zuS (zuA (zuS σ 0 (if zB ((1 ≤ f ∧ f ≤ g 0) ∧ (1 ≤ t ∧ t ≤ g 0)) = 0 then 1 else 2 - 2 * zB (f ≤ t))) 3 (grem A g u)) 6 (gret u)) 27 (grv f t k (gput (gblk 1 (g 0).toNat) o))) 28 (gmvd g (grv f t k (gput (gblk 1 (g 0).toNat) o)) m9 (27 * g 0))) 1 (garr g (grv f t k (gput (gblk 1 (g 0).toNat) o)) (27 * g 0))), (rfl), (by rw [if_pos c6]; have e9 : grv f t k (gput (gblk 1 (g 0).toNat) o) = grvo (g 0) f t o := (by rw [show k = t + 1 by omega]; rfl); rw [← e9]; exact zCo.eq (((((((zCo.refl σ).uS (k := 0) (by decide) (if zB ((1 ≤ f ∧ f ≤ g 0) ∧ (1 ≤ t ∧ t ≤ g 0)) = 0 then 1 else 2 - 2 * zB (f ≤ t))).cA 3 (grem A g u)).cS 6 (gret u)).uA (k := 27) rfl (grv f t k (gput (gblk 1 (g 0).toNat) o))).uA (k := 28) rfl (gmvd g (grv f t k (gput (gblk 1 (g 0).toNat) o)) m9 (27 * g 0))).cA 1 (garr g (grv f t k (gput (gblk 1 (g 0).toNat) o)) (27 * g 0))) (fun k => by simp only [zuS, zuA, zset] <;> (repeat' split) <;> first | rfl | omega) (fun k hk => by simp only [zuS, zuA, zset] <;> (repeat' split) <;> first | rfl | omega)), hf⟩
      · skip
        refine zr_aload_n hO (hl := rfl) (j := 0) (hi := rfl) dX3_reverse_26 ?_
        refine zs_arr hO hf 27 dX3_reverse_27 q2997 (Nat.le_of_ble_eq_true rfl) rfl ?_
        refine zr_iload_n hO (hl := rfl) (j := 3) (hi := rfl) dX3_reverse_30 ?_
        refine zr_iconst hO dX3_reverse_31 ?_
        refine zr_isub hO dX3_reverse_32 ?_
        refine zr_iload_n hO (hl := rfl) (j := 1) (hi := rfl) dX3_reverse_33 ?_
        refine zr_iload_n hO (hl := rfl) (j := 2) (hi := rfl) dX3_reverse_34 ?_
        refine zr_iadd hO dX3_reverse_35 ?_
        refine zr_iload_n hO (hl := rfl) (j := 3) (hi := rfl) dX3_reverse_36 ?_
        refine zr_isub hO dX3_reverse_37 ?_
        refine zs_ist hO hI hf 27 (f := grv f t k (gput (gblk 1 (g 0).toNat) o)) (n := 80) (j := (k - 1).toNat) dX3_reverse_38 rfl rfl rfl rfl (by omega) (by omega) rfl ⟨by omega, by omega⟩ (fun h hf => ?_)
        refine zr_iinc hO (L' := [(3, zi (k + 1)), (0, zp r), (1, zi f), (2, zi t)]) (j := 3) dX3_reverse_39 rfl (Nat.le_of_ble_eq_true rfl) rfl ?_
        refine zr_goto hO (tgt := 21) dX3_reverse_42 rfl ?_
        refine zV.loc [1, 2, 3, 0] rfl ?_
        exact ih21 _ (by omega) (k + 1) rfl (by omega) (by omega) h (zRf_eq (by rw [zuA_uA, grv_s _ (by omega) i1]) hf)
    refine zV.loc [1, 2, 3, 0] rfl ?_
    exact hl21 _ f rfl (by omega) (by omega) h (zRf_eq (by rw [grv_0]) hf)
  · skip
    have c6 := zB_eq c6
    refine zr_iconst hO dX3_reverse_9 ?_
    exact zr_ireturn hO dX3_reverse_10 ⟨(by rw [if_neg c6]), (zuS σ 0 (if zB ((1 ≤ f ∧ f ≤ g 0) ∧ (1 ≤ t ∧ t ≤ g 0)) = 0 then 1 else 2 - 2 * zB (f ≤ t))), (rfl), (by rw [if_neg c6]; exact ((zCo.refl σ).uS (k := 0) (by decide) (if zB ((1 ≤ f ∧ f ≤ g 0) ∧ (1 ≤ t ∧ t ≤ g 0)) = 0 then 1 else 2 - 2 * zB (f ≤ t)))), hf⟩
theorem c_X3_undo {G : zG} {r : Nat} {ad : Nat → Nat} {h0 : zHp} (hI : zRI r ad) {σ : zS} {h : zHp} (hf : zRf r ad σ h0 h) {g : Nat → Int} (hg : σ.2 1 = g) {A : Nat → Int} (hA : σ.2 3 = A) {V : Nat → Int} (hV : σ.2 4 = V) {W : Nat → Int} (hW : σ.2 5 = W) {q : Int} (hq : σ.1 8 = q) {u : Int} (hu : σ.1 6 = u) (hu1 : 0 ≤ u) (hu2 : u ≤ 8) (hq1 : 0 ≤ q) (hq2 : q ≤ 700) (hw : zwf g) : zC G yX3_undo cX3_undo 1 (some Jvm.ClassFile.FieldType.int) 1 24 0 0 [zp r] h (zPi (fun x h' => x = (if 0 < u then u - 1 else 0) ∧ ∃ τ : zS, τ.1 0 = (1 - zB (0 < u)) ∧ zCo (if 0 < u then zuA (zuS σ 6 (u - 1)) 1 (gcp A ((u - 1) * 2195) g 0 2195) else σ) τ ∧ zRf r ad τ h0 h') zNo) := by
  refine zC.of zpn_X3 (Nat.le_of_ble_eq_true rfl) (L := [(0, zp r)]) rfl (fun K hO => ?_)
  obtain ⟨w1, w2, w3⟩ := id hw
  have hj13 : ∀ (b : Int) (hb : b = zB (0 < u)) (h : zHp) (hf : zRf r ad σ h0 h), zV G K 0 0 h 13 [(0, zp r)] [zi b, zp r] := by
    intro b hb h hf
    subst hb
    refine zr_cVi hO zc_X3 zw_X3_111 (c_X3_may hI hf (zB (0 < u)) (zB_01 _)) dX3_undo_13 (zrd_of hf.1) rfl (rest := []) rfl ⟨Nat.le_of_ble_eq_true rfl, Nat.le_of_ble_eq_true rfl⟩ (Nat.le_of_ble_eq_true rfl) (Nat.le_refl _) (Nat.le_refl _) (fun x h hx => ?_)
    obtain ⟨hx, hf⟩ := hx
    have hx : x = (zB (0 < u)) := hx
    subst hx
    have hf : zRf r ad (zuS σ 0 (1 - (zB (0 < u)))) h0 h := hf
    refine zr_if_ne hO (zR_B _) (tgt := 21) dX3_undo_16 rfl (fun c16 => ?_) (fun c16 => ?_)
    · skip
      have c16 := zB_ne c16
      refine zr_aload_n hO (hl := rfl) (j := 0) (hi := rfl) dX3_undo_21 ?_
      refine zr_dup hO rfl dX3_undo_22 ?_
      refine zs_get hO hf 6 (x := u) dX3_undo_23 q2976 (Nat.le_of_ble_eq_true rfl) (congrArg (fun z => some (zi z)) hu) (fun ⟨r2a, r2b⟩ => ?_)
      refine zr_iconst hO dX3_undo_26 ?_
      refine zr_isub hO dX3_undo_27 ?_
      refine zs_put hO hI hf 6 dX3_undo_28 q2976 (Nat.le_of_ble_eq_true rfl) rfl rfl rfl ⟨by omega, by omega⟩ (fun h hf => ?_)
      refine zr_aload_n hO (hl := rfl) (j := 0) (hi := rfl) dX3_undo_31 ?_
      refine zs_arr hO hf 3 dX3_undo_32 q2973 (Nat.le_of_ble_eq_true rfl) rfl ?_
      refine zr_aload_n hO (hl := rfl) (j := 0) (hi := rfl) dX3_undo_35 ?_
      refine zs_get hO hf 6 (x := u - 1) dX3_undo_36 q2976 (Nat.le_of_ble_eq_true rfl) rfl (fun ⟨r3a, r3b⟩ => ?_)
      refine zr_sipush hO (by decide) dX3_undo_39 ?_
      refine zr_imul hO dX3_undo_42 ?_
      refine zr_aload_n hO (hl := rfl) (j := 0) (hi := rfl) dX3_undo_43 ?_
      refine zs_arr hO hf 1 dX3_undo_44 q2971 (Nat.le_of_ble_eq_true rfl) rfl ?_
      refine zr_iconst hO dX3_undo_47 ?_
      refine zr_cSv hO zw_X3_115 (c_X3_copies hI hf 3 1 ((u - 1) * 2195) 0 rfl rfl rfl rfl (by omega) (by have : zRN 3 = 17560 := rfl; omega) (by omega) (by have : zRN 1 = 2195 := rfl; omega) (by first | exact Or.inl (by decide) | omega) (by omega) (by omega)) dX3_undo_48 rfl (rest := []) rfl ⟨Nat.le_of_ble_eq_true rfl, Nat.le_of_ble_eq_true rfl⟩ (Nat.le_of_ble_eq_true rfl) (Nat.le_refl _) (Nat.le_refl _) (fun h hx => ?_)
      have hf : zRf r ad (zuA (zuS (zuS σ 0 (1 - (zB (0 < u)))) 6 (u - 1)) 1 (gcp A ((u - 1) * 2195) g 0 2195)) h0 h := gcp_eq hA hg hx
      refine zr_aload_n hO (hl := rfl) (j := 0) (hi := rfl) dX3_undo_51 ?_
      refine zs_get hO hf 6 (x := u - 1) dX3_undo_52 q2976 (Nat.le_of_ble_eq_true rfl) rfl (fun ⟨r4a, r4b⟩ => ?_)
      exact zr_ireturn hO dX3_undo_55 ⟨(by rw [if_pos c16]), (zuA (zuS (zuS σ 0 (1 - (zB (0 < u)))) 6 (u - 1)) 1 (gcp A ((u - 1) * 2195) g 0 2195)), (rfl), (by rw [if_pos c16]; exact ((((zCo.refl σ).uS (k := 0) (by decide) (1 - (zB (0 < u)))).cS 6 (u - 1)).cA 1 (gcp A ((u - 1) * 2195) g 0 2195))), hf⟩
    · skip
      have c16 := zB_eq c16
      refine zr_iconst hO dX3_undo_19 ?_
      exact zr_ireturn hO dX3_undo_20 ⟨(by rw [if_neg c16]), (zuS σ 0 (1 - (zB (0 < u)))), (rfl), (by rw [if_neg c16]; exact ((zCo.refl σ).uS (k := 0) (by decide) (1 - (zB (0 < u))))), hf⟩
  refine zr_aload_n hO (hl := rfl) (j := 0) (hi := rfl) dX3_undo_0 ?_
  refine zr_aload_n hO (hl := rfl) (j := 0) (hi := rfl) dX3_undo_1 ?_
  refine zs_get hO hf 6 (x := u) dX3_undo_2 q2976 (Nat.le_of_ble_eq_true rfl) (congrArg (fun z => some (zi z)) hu) (fun ⟨r5a, r5b⟩ => ?_)
  refine zr_if_le hO ⟨by omega, by omega⟩ (tgt := 12) dX3_undo_5 rfl (fun c5 => ?_) (fun c5 => ?_)
  · skip
    refine zr_iconst hO dX3_undo_12 ?_
    exact hj13 0 ((zB_f (by omega)).symm) h hf
  · skip
    refine zr_iconst hO dX3_undo_8 ?_
    refine zr_goto hO (tgt := 13) dX3_undo_9 rfl ?_
    exact hj13 1 ((zB_t (by omega)).symm) h hf
theorem c_X3_save {G : zG} {r : Nat} {ad : Nat → Nat} {h0 : zHp} (hI : zRI r ad) {σ : zS} {h : zHp} (hf : zRf r ad σ h0 h) {g : Nat → Int} (hg : σ.2 1 = g) {A : Nat → Int} (hA : σ.2 3 = A) {V : Nat → Int} (hV : σ.2 4 = V) {W : Nat → Int} (hW : σ.2 5 = W) {q : Int} (hq : σ.1 8 = q) {u : Int} (hu : σ.1 6 = u) (k : Int) (hk : zR k) (hu1 : 0 ≤ u) (hu2 : u ≤ 8) (hq1 : 0 ≤ q) (hq2 : q ≤ 700) (hw : zwf g) : zC G yX3_save cX3_save 2 (some Jvm.ClassFile.FieldType.int) 1 24 0 0 [zp r, zi k] h (zPi (fun x h' => x = (if 0 ≤ k ∧ k ≤ 1 then g 0 else 0) ∧ ∃ τ : zS, τ.1 0 = (1 - zB (0 ≤ k ∧ k ≤ 1)) ∧ zCo (if 0 ≤ k ∧ k ≤ 1 then zuA (zuA σ 4 (gcp g 0 V (k * 2195) 2195)) 5 (zset W k.toNat 1) else σ) τ ∧ zRf r ad τ h0 h') zNo) := by
  refine zC.of zpn_X3 (Nat.le_of_ble_eq_true rfl) (L := [(0, zp r), (1, zi k)]) rfl (fun K hO => ?_)
  obtain ⟨w1, w2, w3⟩ := id hw
  obtain ⟨hka, hkb⟩ := hk
  refine zr_aload_n hO (hl := rfl) (j := 0) (hi := rfl) dX3_save_0 ?_
  refine zr_iload_n hO (hl := rfl) (j := 1) (hi := rfl) dX3_save_1 ?_
  refine zr_iconst hO dX3_save_2 ?_
  refine zr_iconst hO dX3_save_3 ?_
  refine zr_cSi hO zw_X3_95 (c_X3_in k 0 1 (⟨by omega, by omega⟩) (⟨by omega, by omega⟩) (⟨by omega, by omega⟩)) dX3_save_4 rfl (rest := [zp r]) rfl ⟨Nat.le_of_ble_eq_true rfl, Nat.le_of_ble_eq_true rfl⟩ (Nat.le_of_ble_eq_true rfl) (Nat.le_refl _) (Nat.le_refl _) (fun x h hx => ?_)
  obtain ⟨hx, rfl⟩ := hx
  have hx : x = zB (0 ≤ k ∧ k ≤ 1) := hx
  subst hx
  refine zr_cVi hO zc_X3 zw_X3_111 (c_X3_may hI hf (zB (0 ≤ k ∧ k ≤ 1)) (zB_01 _)) dX3_save_7 (zrd_of hf.1) rfl (rest := []) rfl ⟨Nat.le_of_ble_eq_true rfl, Nat.le_of_ble_eq_true rfl⟩ (Nat.le_of_ble_eq_true rfl) (Nat.le_refl _) (Nat.le_refl _) (fun x h hx => ?_)
  obtain ⟨hx, hf⟩ := hx
  have hx : x = (zB (0 ≤ k ∧ k ≤ 1)) := hx
  subst hx
  have hf : zRf r ad (zuS σ 0 (1 - (zB (0 ≤ k ∧ k ≤ 1)))) h0 h := hf
  refine zr_if_ne hO (zR_B _) (tgt := 15) dX3_save_10 rfl (fun c10 => ?_) (fun c10 => ?_)
  · skip
    have c10 := zB_ne c10
    refine zr_aload_n hO (hl := rfl) (j := 0) (hi := rfl) dX3_save_15 ?_
    refine zs_arr hO hf 1 dX3_save_16 q2971 (Nat.le_of_ble_eq_true rfl) rfl ?_
    refine zr_iconst hO dX3_save_19 ?_
    refine zr_aload_n hO (hl := rfl) (j := 0) (hi := rfl) dX3_save_20 ?_
    refine zs_arr hO hf 4 dX3_save_21 q2974 (Nat.le_of_ble_eq_true rfl) rfl ?_
    refine zr_iload_n hO (hl := rfl) (j := 1) (hi := rfl) dX3_save_24 ?_
    refine zr_sipush hO (by decide) dX3_save_25 ?_
    refine zr_imul hO dX3_save_28 ?_
    refine zr_cSv hO zw_X3_115 (c_X3_copies hI hf 1 4 0 (k * 2195) rfl rfl rfl rfl (by omega) (by have : zRN 1 = 2195 := rfl; omega) (by omega) (by have : zRN 4 = 4390 := rfl; omega) (by first | exact Or.inl (by decide) | omega) (by omega) (by omega)) dX3_save_29 rfl (rest := []) rfl ⟨Nat.le_of_ble_eq_true rfl, Nat.le_of_ble_eq_true rfl⟩ (Nat.le_of_ble_eq_true rfl) (Nat.le_refl _) (Nat.le_refl _) (fun h hx => ?_)
    have hf : zRf r ad (zuA (zuS σ 0 (1 - (zB (0 ≤ k ∧ k ≤ 1)))) 4 (gcp g 0 V (k * 2195) 2195)) h0 h := gcp_eq hg hV hx
    refine zr_aload_n hO (hl := rfl) (j := 0) (hi := rfl) dX3_save_32 ?_
    refine zs_arr hO hf 5 dX3_save_33 q2975 (Nat.le_of_ble_eq_true rfl) rfl ?_
    refine zr_iload_n hO (hl := rfl) (j := 1) (hi := rfl) dX3_save_36 ?_
    refine zr_iconst hO dX3_save_37 ?_
    refine zs_zst hO hI hf 5 (f := W) (n := 2) (j := k.toNat) dX3_save_38 rfl rfl rfl hW (by omega) (by omega) rfl (Or.inr rfl) (fun h hf => ?_)
    refine zr_aload_n hO (hl := rfl) (j := 0) (hi := rfl) dX3_save_39 ?_
    refine zs_arr hO hf 1 dX3_save_40 q2971 (Nat.le_of_ble_eq_true rfl) rfl ?_
    refine zr_iconst hO dX3_save_43 ?_
    refine zs_ild hO hf 1 (f := g) (n := 2195) (j := 0) dX3_save_44 rfl rfl rfl hg (by omega) (by omega) rfl (fun ⟨r2a, r2b⟩ => ?_)
    exact zr_ireturn hO dX3_save_45 ⟨(by rw [if_pos c10]), (zuA (zuA (zuS σ 0 (1 - (zB (0 ≤ k ∧ k ≤ 1)))) 4 (gcp g 0 V (k * 2195) 2195)) 5 (zset W k.toNat 1)), (rfl), (by rw [if_pos c10]; exact ((((zCo.refl σ).uS (k := 0) (by decide) (1 - (zB (0 ≤ k ∧ k ≤ 1)))).cA 4 (gcp g 0 V (k * 2195) 2195)).cA 5 (zset W k.toNat 1))), hf⟩
  · skip
    have c10 := zB_eq c10
    refine zr_iconst hO dX3_save_13 ?_
    exact zr_ireturn hO dX3_save_14 ⟨(by rw [if_neg c10]), (zuS σ 0 (1 - (zB (0 ≤ k ∧ k ≤ 1)))), (rfl), (by rw [if_neg c10]; exact ((zCo.refl σ).uS (k := 0) (by decide) (1 - (zB (0 ≤ k ∧ k ≤ 1))))), hf⟩
theorem c_X3_restore {G : zG} {r : Nat} {ad : Nat → Nat} {h0 : zHp} (hI : zRI r ad) {σ : zS} {h : zHp} (hf : zRf r ad σ h0 h) {g : Nat → Int} (hg : σ.2 1 = g) {A : Nat → Int} (hA : σ.2 3 = A) {V : Nat → Int} (hV : σ.2 4 = V) {W : Nat → Int} (hW : σ.2 5 = W) {q : Int} (hq : σ.1 8 = q) {u : Int} (hu : σ.1 6 = u) (k : Int) (hk : zR k) (hu1 : 0 ≤ u) (hu2 : u ≤ 8) (hq1 : 0 ≤ q) (hq2 : q ≤ 700) (hw : zwf g) : zC G yX3_restore cX3_restore 3 (some Jvm.ClassFile.FieldType.int) 1 24 0 0 [zp r, zi k] h (zPi (fun x h' => x = (if (0 ≤ k ∧ k ≤ 1) ∧ ((0 ≤ k ∧ k ≤ 1) ∧ W k.toNat = 1) then gcp V (k * 2195) g 0 2195 0 else 0) ∧ ∃ τ : zS, τ.1 0 = (if zB (0 ≤ k ∧ k ≤ 1) = 0 then 1 else 2 - 2 * zB ((0 ≤ k ∧ k ≤ 1) ∧ W k.toNat = 1)) ∧ zCo (if (0 ≤ k ∧ k ≤ 1) ∧ ((0 ≤ k ∧ k ≤ 1) ∧ W k.toNat = 1) then zuS (zuA σ 1 (gcp V (k * 2195) g 0 2195)) 6 0 else σ) τ ∧ zRf r ad τ h0 h') zNo) := by
  refine zC.of zpn_X3 (Nat.le_of_ble_eq_true rfl) (L := [(0, zp r), (1, zi k)]) rfl (fun K hO => ?_)
  obtain ⟨w1, w2, w3⟩ := id hw
  obtain ⟨hka, hkb⟩ := hk
  refine zr_iload_n hO (hl := rfl) (j := 1) (hi := rfl) dX3_restore_0 ?_
  refine zr_iconst hO dX3_restore_1 ?_
  refine zr_iconst hO dX3_restore_2 ?_
  refine zr_cSi hO zw_X3_95 (c_X3_in k 0 1 (⟨by omega, by omega⟩) (⟨by omega, by omega⟩) (⟨by omega, by omega⟩)) dX3_restore_3 rfl (rest := []) rfl ⟨Nat.le_of_ble_eq_true rfl, Nat.le_of_ble_eq_true rfl⟩ (Nat.le_of_ble_eq_true rfl) (Nat.le_refl _) (Nat.le_refl _) (fun x h hx => ?_)
  obtain ⟨hx, rfl⟩ := hx
  have hx : x = zB (0 ≤ k ∧ k ≤ 1) := hx
  subst hx
  have hj27 : ∀ (d : Int) (hd : d = zB ((0 ≤ k ∧ k ≤ 1) ∧ W k.toNat = 1)) (h : zHp) (hf : zRf r ad σ h0 h), zV G K 0 0 h 27 [(0, zp r), (1, zi k)] [zi d, zi (zB (0 ≤ k ∧ k ≤ 1)), zp r] := by
    intro d hd h hf
    subst hd
    refine zr_cVi hO zc_X3 zw_X3_170 (c_X3_mayBoth hI hf (zB (0 ≤ k ∧ k ≤ 1)) (zB ((0 ≤ k ∧ k ≤ 1) ∧ W k.toNat = 1)) (zB_01 _) (zB_01 _)) dX3_restore_27 (zrd_of hf.1) rfl (rest := []) rfl ⟨Nat.le_of_ble_eq_true rfl, Nat.le_of_ble_eq_true rfl⟩ (Nat.le_of_ble_eq_true rfl) (Nat.le_refl _) (Nat.le_refl _) (fun x h hx => ?_)
    obtain ⟨hx, hf⟩ := hx
    have hx : x = zB ((zB (0 ≤ k ∧ k ≤ 1)) = 1 ∧ (zB ((0 ≤ k ∧ k ≤ 1) ∧ W k.toNat = 1)) = 1) := hx
    subst hx
    have hf : zRf r ad (zuS σ 0 (if (zB (0 ≤ k ∧ k ≤ 1)) = 0 then 1 else 2 - 2 * (zB ((0 ≤ k ∧ k ≤ 1) ∧ W k.toNat = 1)))) h0 h := hf
    rw [show (zB ((zB (0 ≤ k ∧ k ≤ 1)) = 1 ∧ (zB ((0 ≤ k ∧ k ≤ 1) ∧ W k.toNat = 1)) = 1)) = zB ((0 ≤ k ∧ k ≤ 1) ∧ ((0 ≤ k ∧ k ≤ 1) ∧ W k.toNat = 1)) from zB_and _ _]
    refine zr_if_ne hO (zR_B _) (tgt := 35) dX3_restore_30 rfl (fun c30 => ?_) (fun c30 => ?_)
    · skip
      have c30 := zB_ne c30
      refine zr_aload_n hO (hl := rfl) (j := 0) (hi := rfl) dX3_restore_35 ?_
      refine zs_arr hO hf 4 dX3_restore_36 q2974 (Nat.le_of_ble_eq_true rfl) rfl ?_
      refine zr_iload_n hO (hl := rfl) (j := 1) (hi := rfl) dX3_restore_39 ?_
      refine zr_sipush hO (by decide) dX3_restore_40 ?_
      refine zr_imul hO dX3_restore_43 ?_
      refine zr_aload_n hO (hl := rfl) (j := 0) (hi := rfl) dX3_restore_44 ?_
      refine zs_arr hO hf 1 dX3_restore_45 q2971 (Nat.le_of_ble_eq_true rfl) rfl ?_
      refine zr_iconst hO dX3_restore_48 ?_
      refine zr_cSv hO zw_X3_115 (c_X3_copies hI hf 4 1 (k * 2195) 0 rfl rfl rfl rfl (by omega) (by have : zRN 4 = 4390 := rfl; omega) (by omega) (by have : zRN 1 = 2195 := rfl; omega) (by first | exact Or.inl (by decide) | omega) (by omega) (by omega)) dX3_restore_49 rfl (rest := []) rfl ⟨Nat.le_of_ble_eq_true rfl, Nat.le_of_ble_eq_true rfl⟩ (Nat.le_of_ble_eq_true rfl) (Nat.le_refl _) (Nat.le_refl _) (fun h hx => ?_)
      have hf : zRf r ad (zuA (zuS σ 0 (if (zB (0 ≤ k ∧ k ≤ 1)) = 0 then 1 else 2 - 2 * (zB ((0 ≤ k ∧ k ≤ 1) ∧ W k.toNat = 1)))) 1 (gcp V (k * 2195) g 0 2195)) h0 h := gcp_eq hV hg hx
      refine zr_aload_n hO (hl := rfl) (j := 0) (hi := rfl) dX3_restore_52 ?_
      refine zr_iconst hO dX3_restore_53 ?_
      refine zs_put hO hI hf 6 dX3_restore_54 q2976 (Nat.le_of_ble_eq_true rfl) rfl rfl rfl ⟨by omega, by omega⟩ (fun h hf => ?_)
      refine zr_aload_n hO (hl := rfl) (j := 0) (hi := rfl) dX3_restore_57 ?_
      refine zs_arr hO hf 1 dX3_restore_58 q2971 (Nat.le_of_ble_eq_true rfl) rfl ?_
      refine zr_iconst hO dX3_restore_61 ?_
      refine zs_ild hO hf 1 (f := gcp V (k * 2195) g 0 2195) (n := 2195) (j := 0) dX3_restore_62 rfl rfl rfl ((zuS_2 (zuA (zuS σ 0 (if (zB (0 ≤ k ∧ k ≤ 1)) = 0 then 1 else 2 - 2 * (zB ((0 ≤ k ∧ k ≤ 1) ∧ W k.toNat = 1)))) 1 (gcp V (k * 2195) g 0 2195)) 6 0 1).trans (zuA_at (zuS σ 0 (if (zB (0 ≤ k ∧ k ≤ 1)) = 0 then 1 else 2 - 2 * (zB ((0 ≤ k ∧ k ≤ 1) ∧ W k.toNat = 1)))) 1 (gcp V (k * 2195) g 0 2195))) (by omega) (by omega) rfl (fun ⟨r2a, r2b⟩ => ?_)
      exact zr_ireturn hO dX3_restore_63 ⟨(by rw [if_pos c30]), (zuS (zuA (zuS σ 0 (if (zB (0 ≤ k ∧ k ≤ 1)) = 0 then 1 else 2 - 2 * (zB ((0 ≤ k ∧ k ≤ 1) ∧ W k.toNat = 1)))) 1 (gcp V (k * 2195) g 0 2195)) 6 0), (rfl), (by rw [if_pos c30]; exact ((((zCo.refl σ).uS (k := 0) (by decide) (if (zB (0 ≤ k ∧ k ≤ 1)) = 0 then 1 else 2 - 2 * (zB ((0 ≤ k ∧ k ≤ 1) ∧ W k.toNat = 1)))).cA 1 (gcp V (k * 2195) g 0 2195)).cS 6 0)), hf⟩
    · skip
      have c30 := zB_eq c30
      refine zr_iconst hO dX3_restore_33 ?_
      exact zr_ireturn hO dX3_restore_34 ⟨(by rw [if_neg c30]), (zuS σ 0 (if (zB (0 ≤ k ∧ k ≤ 1)) = 0 then 1 else 2 - 2 * (zB ((0 ≤ k ∧ k ≤ 1) ∧ W k.toNat = 1)))), (rfl), (by rw [if_neg c30]; exact ((zCo.refl σ).uS (k := 0) (by decide) (if (zB (0 ≤ k ∧ k ≤ 1)) = 0 then 1 else 2 - 2 * (zB ((0 ≤ k ∧ k ≤ 1) ∧ W k.toNat = 1))))), hf⟩
  refine zr_istore_n hO (L' := [(2, zi (zB (0 ≤ k ∧ k ≤ 1))), (0, zp r), (1, zi k)]) (hi := rfl) dX3_restore_6 (Nat.le_of_ble_eq_true rfl) rfl ?_
  refine zr_aload_n hO (hl := rfl) (j := 1) (hi := rfl) dX3_restore_7 ?_
  refine zr_iload_n hO (hl := rfl) (j := 0) (hi := rfl) dX3_restore_8 ?_
  refine zr_iload_n hO (hl := rfl) (j := 0) (hi := rfl) dX3_restore_9 ?_
  refine zr_if_eq hO (zR_B _) (tgt := 26) dX3_restore_10 rfl (fun c10 => ?_) (fun c10 => ?_)
  · skip
    have c10 := zB_eq c10
    refine zr_iconst hO dX3_restore_26 ?_
    refine zV.loc [1, 2] rfl ?_
    exact hj27 0 ((zB_f (by omega)).symm) h hf
  · skip
    have c10 := zB_ne c10
    refine zr_aload_n hO (hl := rfl) (j := 1) (hi := rfl) dX3_restore_13 ?_
    refine zs_arr hO hf 5 dX3_restore_14 q2975 (Nat.le_of_ble_eq_true rfl) rfl ?_
    refine zr_iload_n hO (hl := rfl) (j := 2) (hi := rfl) dX3_restore_17 ?_
    refine zs_zld hO hf 5 (f := W) (n := 2) (j := k.toNat) dX3_restore_18 rfl rfl rfl hW (by omega) (by omega) rfl (fun r3 => ?_)
    refine zr_if_eq hO ⟨by omega, by omega⟩ (tgt := 26) dX3_restore_19 rfl (fun c19 => ?_) (fun c19 => ?_)
    · skip
      refine zr_iconst hO dX3_restore_26 ?_
      refine zV.loc [1, 2] rfl ?_
      exact hj27 0 ((zB_f (by omega)).symm) h hf
    · skip
      refine zr_iconst hO dX3_restore_22 ?_
      refine zr_goto hO (tgt := 27) dX3_restore_23 rfl ?_
      refine zV.loc [1, 2] rfl ?_
      exact hj27 1 ((zB_t (by omega)).symm) h hf
theorem c_X3_puts {G : zG} {r : Nat} {ad : Nat → Nat} {h0 : zHp} (hI : zRI r ad) {σ : zS} {h : zHp} (hf : zRf r ad σ h0 h) {g : Nat → Int} (hg : σ.2 1 = g) (w : Int) (p : Int) (v : Int) (hw1 : 3 ≤ w) (hw2 : w ≤ 4) (hp1 : p = 15 ∨ p = 25) (hn1 : 0 ≤ g w.toNat) (hn2 : g w.toNat ≤ 10) (hv : zR v) : zC G yX3_puts cX3_puts 5 none 0 0 0 0 [zp r, zi w, zi p, zi v] h (zPv (fun h' => zRf r ad (zuA σ 1 (gpu g (w : Int).toNat p v)) h0 h') zNo) := by
  refine zC.of zpn_X3 (Nat.le_of_ble_eq_true rfl) (L := [(0, zp r), (1, zi w), (2, zi p), (3, zi v)]) rfl (fun K hO => ?_)
  have hj57 : ∀ (q : Nat → Int) (hq : gpb g w.toNat p = q) (h : zHp) (hf : zRf r ad (zuA σ 1 q) h0 h), zV G K 0 0 h 57 [(0, zp r), (1, zi w), (2, zi p), (3, zi v)] [] := by
    intro q hq h hf
    have hqw := gpb_w g w.toNat p
    rw [hq] at hqw
    have hqr : 0 ≤ q w.toNat ∧ q w.toNat ≤ 9 := by rw [hqw]; split <;> omega
    refine zr_aload_n hO (hl := rfl) (j := 0) (hi := rfl) dX3_puts_57 ?_
    refine zs_arr hO hf 1 dX3_puts_58 q2971 (Nat.le_of_ble_eq_true rfl) rfl ?_
    refine zr_iload_n hO (hl := rfl) (j := 2) (hi := rfl) dX3_puts_61 ?_
    refine zr_aload_n hO (hl := rfl) (j := 0) (hi := rfl) dX3_puts_62 ?_
    refine zs_arr hO hf 1 dX3_puts_63 q2971 (Nat.le_of_ble_eq_true rfl) rfl ?_
    refine zr_iload_n hO (hl := rfl) (j := 1) (hi := rfl) dX3_puts_66 ?_
    refine zs_ild hO hf 1 (f := q) (n := 2195) (j := w.toNat) dX3_puts_67 rfl rfl rfl rfl (by omega) (by omega) rfl (fun ⟨r1a, r1b⟩ => ?_)
    refine zr_iadd hO dX3_puts_68 ?_
    refine zr_iload_n hO (hl := rfl) (j := 3) (hi := rfl) dX3_puts_69 ?_
    refine zs_ist hO hI hf 1 (f := q) (n := 2195) (j := (p + (q w.toNat)).toNat) dX3_puts_70 rfl rfl rfl rfl (by omega) (by omega) rfl ⟨by omega, by omega⟩ (fun h hf => ?_)
    refine zr_aload_n hO (hl := rfl) (j := 0) (hi := rfl) dX3_puts_71 ?_
    refine zs_arr hO hf 1 dX3_puts_72 q2971 (Nat.le_of_ble_eq_true rfl) rfl ?_
    refine zr_iload_n hO (hl := rfl) (j := 1) (hi := rfl) dX3_puts_75 ?_
    refine zr_dup2 hO rfl rfl dX3_puts_76 ?_
    refine zs_ild hO hf 1 (f := zset q ((p + (q w.toNat)).toNat) v) (n := 2195) (j := w.toNat) dX3_puts_77 rfl rfl rfl rfl (by omega) (by omega) rfl (fun ⟨r2a, r2b⟩ => ?_)
    rw [show ((zset q ((p + (q w.toNat)).toNat) v) w.toNat) = q w.toNat from (zset_n (by omega))]
    refine zr_iconst hO dX3_puts_78 ?_
    refine zr_iadd hO dX3_puts_79 ?_
    refine zs_ist hO hI hf 1 (f := zset q ((p + (q w.toNat)).toNat) v) (n := 2195) (j := w.toNat) dX3_puts_80 rfl rfl rfl rfl (by omega) (by omega) rfl ⟨by omega, by omega⟩ (fun h hf => ?_)
    exact zr_return hO dX3_puts_81 (zRf_eq (by unfold gpu; rw [zuA_uA, zuA_uA, hq]) hf)
  refine zr_aload_n hO (hl := rfl) (j := 0) (hi := rfl) dX3_puts_0 ?_
  refine zs_arr hO hf 1 dX3_puts_1 q2971 (Nat.le_of_ble_eq_true rfl) rfl ?_
  refine zr_iload_n hO (hl := rfl) (j := 1) (hi := rfl) dX3_puts_4 ?_
  refine zs_ild hO hf 1 (f := g) (n := 2195) (j := w.toNat) dX3_puts_5 rfl rfl rfl hg (by omega) (by omega) rfl (fun ⟨r3a, r3b⟩ => ?_)
  refine zr_bipush hO (by decide) dX3_puts_6 ?_
  refine zr_icmp_ne hO ⟨by omega, by omega⟩ ⟨by omega, by omega⟩ (tgt := 57) dX3_puts_8 rfl (fun c8 => ?_) (fun c8 => ?_)
  · skip
    exact hj57 g (by unfold gpb; rw [if_neg (by omega)]) h (zRf_eq (zuA_id' 1 hg).symm hf)
  · skip
    refine zr_iconst hO dX3_puts_11 ?_
    refine zr_istore hO (L' := [(4, zi 1), (0, zp r), (1, zi w), (2, zi p), (3, zi v)]) dX3_puts_12 (Nat.le_of_ble_eq_true rfl) rfl ?_
    have hl14 : ∀ (n9 : Nat) (i : Int), (10 - i).toNat = n9 → ∀ (i1 : 1 ≤ i) (i2 : i ≤ 10) (h : zHp) (hf : zRf r ad (zuA σ 1 (gsh1 g p i)) h0 h), zV G K 0 0 h 14 [(0, zp r), (1, zi w), (2, zi p), (3, zi v), (4, zi i)] [] := by
      intro n9
      induction n9 using Nat.strongRecOn with
      | _ n9 ih14 =>
      intro i hn14 i1 i2 h hf
      refine zr_iload hO (hl := rfl) (j := 4) dX3_puts_14 ?_
      refine zr_bipush hO (by decide) dX3_puts_16 ?_
      refine zr_icmp_ge hO ⟨by omega, by omega⟩ ⟨by omega, by omega⟩ (tgt := 47) dX3_puts_18 rfl (fun c18 => ?_) (fun c18 => ?_)
      · skip
        refine zr_aload_n hO (hl := rfl) (j := 0) (hi := rfl) dX3_puts_47 ?_
        refine zs_arr hO hf 1 dX3_puts_48 q2971 (Nat.le_of_ble_eq_true rfl) rfl ?_
        refine zr_iload_n hO (hl := rfl) (j := 1) (hi := rfl) dX3_puts_51 ?_
        refine zr_dup2 hO rfl rfl dX3_puts_52 ?_
        refine zs_ild hO hf 1 (f := gsh1 g p i) (n := 2195) (j := w.toNat) dX3_puts_53 rfl rfl rfl rfl (by omega) (by omega) rfl (fun ⟨r4a, r4b⟩ => ?_)
        have hgw : gsh1 g p i w.toNat = g w.toNat := if_neg (by omega)
        rw [show ((gsh1 g p i) w.toNat) = g w.toNat from hgw]
        refine zr_iconst hO dX3_puts_54 ?_
        refine zr_isub hO dX3_puts_55 ?_
        refine zs_ist hO hI hf 1 (f := gsh1 g p i) (n := 2195) (j := w.toNat) dX3_puts_56 rfl rfl rfl rfl (by omega) (by omega) rfl ⟨by omega, by omega⟩ (fun h hf => ?_)
        refine zV.loc [0, 1, 2, 3] rfl ?_
        exact hj57 (zset (gsh1 g p i) w.toNat ((g w.toNat) - 1)) (by unfold gpb; rw [if_pos (by omega)]; rw [show i = 10 by omega]) h (zRf_eq (by rw [zuA_uA]) hf)
      · skip
        refine zr_aload_n hO (hl := rfl) (j := 0) (hi := rfl) dX3_puts_21 ?_
        refine zs_arr hO hf 1 dX3_puts_22 q2971 (Nat.le_of_ble_eq_true rfl) rfl ?_
        refine zr_iload_n hO (hl := rfl) (j := 2) (hi := rfl) dX3_puts_25 ?_
        refine zr_iload hO (hl := rfl) (j := 4) dX3_puts_26 ?_
        refine zr_iadd hO dX3_puts_28 ?_
        refine zr_iconst hO dX3_puts_29 ?_
        refine zr_isub hO dX3_puts_30 ?_
        refine zr_aload_n hO (hl := rfl) (j := 0) (hi := rfl) dX3_puts_31 ?_
        refine zs_arr hO hf 1 dX3_puts_32 q2971 (Nat.le_of_ble_eq_true rfl) rfl ?_
        refine zr_iload_n hO (hl := rfl) (j := 2) (hi := rfl) dX3_puts_35 ?_
        refine zr_iload hO (hl := rfl) (j := 4) dX3_puts_36 ?_
        refine zr_iadd hO dX3_puts_38 ?_
        refine zs_ild hO hf 1 (f := gsh1 g p i) (n := 2195) (j := (p + i).toNat) dX3_puts_39 rfl rfl rfl rfl (by omega) (by omega) rfl (fun ⟨r5a, r5b⟩ => ?_)
        have hgi : gsh1 g p i (p + i).toNat = g (p + i).toNat := if_neg (by omega)
        rw [show ((gsh1 g p i) ((p + i).toNat)) = g (p + i).toNat from hgi]
        refine zs_ist hO hI hf 1 (f := gsh1 g p i) (n := 2195) (j := (p + i - 1).toNat) dX3_puts_40 rfl rfl rfl rfl (by omega) (by omega) rfl ⟨by omega, by omega⟩ (fun h hf => ?_)
        refine zr_iinc hO (L' := [(4, zi (i + 1)), (0, zp r), (1, zi w), (2, zi p), (3, zi v)]) (j := 4) dX3_puts_41 rfl (Nat.le_of_ble_eq_true rfl) rfl ?_
        refine zr_goto hO (tgt := 14) dX3_puts_44 rfl ?_
        refine zV.loc [1, 2, 3, 4, 0] rfl ?_
        exact ih14 _ (by omega) (i + 1) rfl (by omega) (by omega) h (zRf_eq (by rw [zuA_uA, gsh1_s g i1 (by omega)]) hf)
    refine zV.loc [1, 2, 3, 4, 0] rfl ?_
    exact hl14 _ 1 rfl (by omega) (by omega) h (zRf_eq (by rw [gsh1_1, zuA_id' 1 hg]) hf)
theorem c_X3_comesTo {G : zG} {r : Nat} {ad : Nat → Nat} {h0 : zHp} (hI : zRI r ad) {σ : zS} {h : zHp} (hf : zRf r ad σ h0 h) {g : Nat → Int} (hg : σ.2 1 = g) (k : Int) (hk : zR k) (hw : zwf g) : zC G yX3_comesTo cX3_comesTo 3 none 9 203 0 0 [zp r, zi k] h (zPv (fun h' => ∃ τ : zS, zSm (zuA σ 1 (gct g k)) τ ∧ zRf r ad τ h0 h') zNo) := by
  refine zC.of zpn_X3 (Nat.le_of_ble_eq_true rfl) (L := [(0, zp r), (1, zi k)]) rfl (fun K hO => ?_)
  obtain ⟨w1, w2, w3⟩ := id hw
  obtain ⟨hka, hkb⟩ := hk
  have hl2 : zln g (zset g 2 k) := (zln.refl g).set (by decide) (by decide) k
  have hw2 := zwf_lo hl2 hw
  have hn2 := gnu_in (zset g 2 k) k
  obtain ⟨x1, x2, x3⟩ := id hw2
  refine zr_aload_n hO (hl := rfl) (j := 0) (hi := rfl) dX3_comesTo_0 ?_
  refine zs_arr hO hf 1 dX3_comesTo_1 q2971 (Nat.le_of_ble_eq_true rfl) rfl ?_
  refine zr_iconst hO dX3_comesTo_4 ?_
  refine zr_iload_n hO (hl := rfl) (j := 1) (hi := rfl) dX3_comesTo_5 ?_
  refine zs_ist hO hI hf 1 (f := g) (n := 2195) (j := 2) dX3_comesTo_6 rfl rfl rfl hg (by omega) (by omega) rfl ⟨by omega, by omega⟩ (fun h hf => ?_)
  refine zr_aload_n hO (hl := rfl) (j := 0) (hi := rfl) dX3_comesTo_7 ?_
  refine zr_aload_n hO (hl := rfl) (j := 0) (hi := rfl) dX3_comesTo_8 ?_
  refine zr_iload_n hO (hl := rfl) (j := 1) (hi := rfl) dX3_comesTo_9 ?_
  refine zr_cVi hO zc_X3 zw_X3_192 (c_X3_numberOf hI hf (zuA_at σ 1 (zset g 2 k)) k (⟨by omega, by omega⟩) (by omega) (by omega)) dX3_comesTo_10 (zrd_of hf.1) rfl (rest := [zp r]) rfl ⟨Nat.le_of_ble_eq_true rfl, Nat.le_of_ble_eq_true rfl⟩ (Nat.le_of_ble_eq_true rfl) (Nat.le_refl _) (Nat.le_refl _) (fun x h hx => ?_)
  obtain ⟨hx, hf⟩ := hx
  have hx : x = gnu (zset g 2 k) k := hx
  subst hx
  refine zr_cVi hO zc_X3 zw_X3_266 (c_X3_shows hI hf (zuA_at σ 1 (zset g 2 k)) (gnu (zset g 2 k) k) (⟨by omega, by omega⟩) (hw2)) dX3_comesTo_13 (zrd_of hf.1) rfl (rest := []) rfl ⟨Nat.le_of_ble_eq_true rfl, Nat.le_of_ble_eq_true rfl⟩ (Nat.le_of_ble_eq_true rfl) (Nat.le_refl _) (Nat.le_refl _) (fun x h hx => ?_)
  obtain ⟨hxv, τ1, hs1, hf⟩ := hx
  have hxv : x = gopm (zset g 2 k) (gnu (zset g 2 k) k) := hxv
  rw [hxv]
  refine zr_istore_n hO (L' := [(2, zi (gopm (zset g 2 k) (gnu (zset g 2 k) k))), (0, zp r), (1, zi k)]) (hi := rfl) dX3_comesTo_16 (Nat.le_of_ble_eq_true rfl) rfl ?_
  exact zr_return hO dX3_comesTo_17 ⟨τ1, (by have e := ((((zSm.refl σ).cA 1 (zset g 2 k)).cA 1 (gsw (zset g 2 k) (gnu (zset g 2 k) k))).trans hs1); rw [zuA_uA] at e; exact e), hf⟩
theorem zw_X3_317 : zYw RX3 RX3 317 yX3_puts cX3_puts 5 none 3 := ⟨q3540, q3542, qs100, q116, q3543, rfl, ⟨by decide +kernel, by decide +kernel, by decide +kernel⟩⟩
theorem zw_X3_320 : zYw RX3 RX3 320 yX3_comesTo cX3_comesTo 3 none 1 := ⟨q3544, q3546, qs101, q116, q3547, rfl, ⟨by decide +kernel, by decide +kernel, by decide +kernel⟩⟩
theorem c_X3_jumpsTo {G : zG} {r : Nat} {ad : Nat → Nat} {h0 : zHp} (hI : zRI r ad) {σ : zS} {h : zHp} (hf : zRf r ad σ h0 h) {g : Nat → Int} (hg : σ.2 1 = g) (n : Int) (h1 : 1 ≤ n) (h2 : n ≤ g 0) (hc1 : zR (g 2)) (hb1 : 0 ≤ g 3) (hb2 : g 3 ≤ 10) (hw : zwf g) : zC G yX3_jumpsTo cX3_jumpsTo 2 none 10 225 0 0 [zp r, zi n] h (zPv (fun h' => ∃ τ : zS, zSm (zuA σ 1 (gjt g n)) τ ∧ zRf r ad τ h0 h') zNo) := by
  refine zC.of zpn_X3 (Nat.le_of_ble_eq_true rfl) (L := [(0, zp r), (1, zi n)]) rfl (fun K hO => ?_)
  obtain ⟨w1, w2, w3⟩ := id hw
  refine zr_aload_n hO (hl := rfl) (j := 0) (hi := rfl) dX3_jumpsTo_0 ?_
  refine zr_iconst hO dX3_jumpsTo_1 ?_
  refine zr_bipush hO (by decide) dX3_jumpsTo_2 ?_
  refine zr_aload_n hO (hl := rfl) (j := 0) (hi := rfl) dX3_jumpsTo_4 ?_
  refine zs_arr hO hf 1 dX3_jumpsTo_5 q2971 (Nat.le_of_ble_eq_true rfl) rfl ?_
  refine zr_iconst hO dX3_jumpsTo_8 ?_
  refine zs_ild hO hf 1 (f := g) (n := 2195) (j := 2) dX3_jumpsTo_9 rfl rfl rfl hg (by omega) (by omega) rfl (fun ⟨r1a, r1b⟩ => ?_)
  refine zr_cVv hO zc_X3 zw_X3_317 (c_X3_puts hI hf hg 3 15 (g 2) (by omega) (by omega) (by omega) (by show 0 ≤ g 3; exact hb1) (by show g 3 ≤ 10; exact hb2) (hc1)) dX3_jumpsTo_10 (zrd_of hf.1) rfl (rest := []) rfl ⟨Nat.le_of_ble_eq_true rfl, Nat.le_of_ble_eq_true rfl⟩ (Nat.le_of_ble_eq_true rfl) (Nat.le_refl _) (Nat.le_refl _) (fun h hx => ?_)
  have hf : zRf r ad (zuA σ 1 (gpu g (3 : Int).toNat 15 (g 2))) h0 h := hx
  clear hx
  have hl3 := gpu_ln g 3 15 (g 2) (by decide) (by decide) hb1 hb2
  have hw3 := zwf_lo (hl3.set (j := 4) (by decide) (by decide) 0) hw
  refine zr_aload_n hO (hl := rfl) (j := 0) (hi := rfl) dX3_jumpsTo_13 ?_
  refine zs_arr hO hf 1 dX3_jumpsTo_14 q2971 (Nat.le_of_ble_eq_true rfl) rfl ?_
  refine zr_iconst hO dX3_jumpsTo_17 ?_
  refine zr_iconst hO dX3_jumpsTo_18 ?_
  refine zs_ist hO hI hf 1 (f := gpu g (3 : Int).toNat 15 (g 2)) (n := 2195) (j := 4) dX3_jumpsTo_19 rfl rfl rfl rfl (by omega) (by omega) rfl ⟨by omega, by omega⟩ (fun h hf => ?_)
  refine zr_aload_n hO (hl := rfl) (j := 0) (hi := rfl) dX3_jumpsTo_20 ?_
  refine zr_aload_n hO (hl := rfl) (j := 0) (hi := rfl) dX3_jumpsTo_21 ?_
  refine zr_iload_n hO (hl := rfl) (j := 1) (hi := rfl) dX3_jumpsTo_22 ?_
  refine zr_iconst hO dX3_jumpsTo_23 ?_
  refine zr_cVi hO zc_X3 zw_X3_129 (c_X3_of hI hf (zuA_at (zuA σ 1 (gpu g (3 : Int).toNat 15 (g 2))) 1 (zset (gpu g (3 : Int).toNat 15 (g 2)) 4 0)) n 0 (by omega) (by omega)) dX3_jumpsTo_24 (zrd_of hf.1) rfl (rest := [zp r]) rfl ⟨Nat.le_of_ble_eq_true rfl, Nat.le_of_ble_eq_true rfl⟩ (Nat.le_of_ble_eq_true rfl) (Nat.le_refl _) (Nat.le_refl _) (fun x h hx => ?_)
  obtain ⟨hx, ⟨r2a, r2b⟩, hf⟩ := hx
  have hx : x = gky (zset (gpu g (3 : Int).toNat 15 (g 2)) 4 0) n := hx
  subst hx
  refine zr_cVv hO zc_X3 zw_X3_320 (c_X3_comesTo hI hf (zuA_at (zuA σ 1 (gpu g (3 : Int).toNat 15 (g 2))) 1 (zset (gpu g (3 : Int).toNat 15 (g 2)) 4 0)) (gky (zset (gpu g (3 : Int).toNat 15 (g 2)) 4 0) n) (⟨by omega, by omega⟩) (hw3)) dX3_jumpsTo_27 (zrd_of hf.1) rfl (rest := []) rfl ⟨Nat.le_of_ble_eq_true rfl, Nat.le_of_ble_eq_true rfl⟩ (Nat.le_of_ble_eq_true rfl) (Nat.le_refl _) (Nat.le_refl _) (fun h hx => ?_)
  obtain ⟨τ1, hs1, hf⟩ := hx
  exact zr_return hO dX3_jumpsTo_30 ⟨τ1, (by have e := (((((zSm.refl σ).cA 1 (gpu g (3 : Int).toNat 15 (g 2))).cA 1 (zset (gpu g (3 : Int).toNat 15 (g 2)) 4 0)).cA 1 (gct (zset (gpu g (3 : Int).toNat 15 (g 2)) 4 0) (gky (zset (gpu g (3 : Int).toNat 15 (g 2)) 4 0) n))).trans hs1); rw [zuA_uA, zuA_uA] at e; exact e), hf⟩
theorem zw_X3_323 : zYw RX3 RX3 323 yX3_jumpsTo cX3_jumpsTo 2 none 1 := ⟨q3536, q3538, qs99, q116, q3539, rfl, ⟨by decide +kernel, by decide +kernel, by decide +kernel⟩⟩
theorem c_X3_jump {G : zG} {r : Nat} {ad : Nat → Nat} {h0 : zHp} (hI : zRI r ad) {σ : zS} {h : zHp} (hf : zRf r ad σ h0 h) {g : Nat → Int} (hg : σ.2 1 = g) {b : Nat → Int} (hb : σ.2 7 = b) {A : Nat → Int} (hA : σ.2 3 = A) {o : Nat → Int} (ho : σ.2 27 = o) {m9 : Nat → Int} (hm9 : σ.2 28 = m9) {q : Int} (hq : σ.1 8 = q) {u : Int} (hu : σ.1 6 = u) (n : Int) (hn : zR n) (hc1 : zR (g 2)) (hj1 : 0 ≤ g 3) (hj2 : g 3 ≤ 10) (hj3 : 0 ≤ g 4) (hj4 : g 4 ≤ 10) (hu1 : 0 ≤ u) (hu2 : u ≤ 8) (hq1 : 0 ≤ q) (hq2 : q ≤ 700) (hw : zwf g) : zC G yX3_jump cX3_jump 2 (some Jvm.ClassFile.FieldType.int) 11 246 0 0 [zp r, zi n] h (zPi (fun x h' => x = (if 1 ≤ n ∧ n ≤ g 0 then grow (gjt g n) (gcl (gjt g n)) n else 0) ∧ ∃ τ : zS, τ.1 0 = (1 - zB (1 ≤ n ∧ n ≤ g 0)) ∧ zCo (if 1 ≤ n ∧ n ≤ g 0 then zuA (zuS (zuA σ 3 (grem A g u)) 6 (gret u)) 1 (gjt g n) else σ) τ ∧ zRf r ad τ h0 h') zNo) := by
  refine zC.of zpn_X3 (Nat.le_of_ble_eq_true rfl) (L := [(0, zp r), (1, zi n)]) rfl (fun K hO => ?_)
  obtain ⟨w1, w2, w3⟩ := id hw
  obtain ⟨hna, hnb⟩ := hn
  refine zr_aload_n hO (hl := rfl) (j := 0) (hi := rfl) dX3_jump_0 ?_
  refine zr_aload_n hO (hl := rfl) (j := 0) (hi := rfl) dX3_jump_1 ?_
  refine zr_iload_n hO (hl := rfl) (j := 1) (hi := rfl) dX3_jump_2 ?_
  refine zr_cVi hO zc_X3 zw_X3_167 (c_X3_isLine hI hf hg n (⟨by omega, by omega⟩)) dX3_jump_3 (zrd_of hf.1) rfl (rest := [zp r]) rfl ⟨Nat.le_of_ble_eq_true rfl, Nat.le_of_ble_eq_true rfl⟩ (Nat.le_of_ble_eq_true rfl) (Nat.le_refl _) (Nat.le_refl _) (fun x h hx => ?_)
  obtain ⟨hx, hf⟩ := hx
  have hx : x = zB (1 ≤ n ∧ n ≤ g 0) := hx
  subst hx
  refine zr_cVi hO zc_X3 zw_X3_111 (c_X3_may hI hf (zB (1 ≤ n ∧ n ≤ g 0)) (zB_01 _)) dX3_jump_6 (zrd_of hf.1) rfl (rest := []) rfl ⟨Nat.le_of_ble_eq_true rfl, Nat.le_of_ble_eq_true rfl⟩ (Nat.le_of_ble_eq_true rfl) (Nat.le_refl _) (Nat.le_refl _) (fun x h hx => ?_)
  obtain ⟨hx, hf⟩ := hx
  have hx : x = (zB (1 ≤ n ∧ n ≤ g 0)) := hx
  subst hx
  have hf : zRf r ad (zuS σ 0 (1 - (zB (1 ≤ n ∧ n ≤ g 0)))) h0 h := hf
  refine zr_if_ne hO (zR_B _) (tgt := 14) dX3_jump_9 rfl (fun c9 => ?_) (fun c9 => ?_)
  · skip
    have c9 := zB_ne c9
    refine zr_aload_n hO (hl := rfl) (j := 0) (hi := rfl) dX3_jump_14 ?_
    refine zr_cVv hO zc_X3 zw_X3_294 (c_X3_remembers hI hf hg hA hu  (by omega) (by omega)) dX3_jump_15 (zrd_of hf.1) rfl (rest := []) rfl ⟨Nat.le_of_ble_eq_true rfl, Nat.le_of_ble_eq_true rfl⟩ (Nat.le_of_ble_eq_true rfl) (Nat.le_refl _) (Nat.le_refl _) (fun h hx => ?_)
    have hf : zRf r ad (zuS (zuA (zuS σ 0 (1 - (zB (1 ≤ n ∧ n ≤ g 0)))) 3 (grem A g u)) 6 (gret u)) h0 h := hx
    clear hx
    refine zr_aload_n hO (hl := rfl) (j := 0) (hi := rfl) dX3_jump_18 ?_
    refine zr_iload_n hO (hl := rfl) (j := 1) (hi := rfl) dX3_jump_19 ?_
    refine zr_cVv hO zc_X3 zw_X3_323 (c_X3_jumpsTo hI hf hg n (by omega) (by omega) (hc1) (by omega) (by omega) (hw)) dX3_jump_20 (zrd_of hf.1) rfl (rest := []) rfl ⟨Nat.le_of_ble_eq_true rfl, Nat.le_of_ble_eq_true rfl⟩ (Nat.le_of_ble_eq_true rfl) (Nat.le_refl _) (Nat.le_refl _) (fun h hx => ?_)
    obtain ⟨τ1, hs1, hf⟩ := hx
    refine zr_aload_n hO (hl := rfl) (j := 0) (hi := rfl) dX3_jump_23 ?_
    refine zr_cVv hO zc_X3 zw_X3_174 (c_X3_layAll hI hf ((hs1.2 1 rfl).trans (zuA_at (zuS (zuA (zuS σ 0 (1 - (zB (1 ≤ n ∧ n ≤ g 0)))) 3 (grem A g u)) 6 (gret u)) 1 (gjt g n)))  (gjt_wf hw n hj1 hj2)) dX3_jump_24 (zrd_of hf.1) rfl (rest := []) rfl ⟨Nat.le_of_ble_eq_true rfl, Nat.le_of_ble_eq_true rfl⟩ (Nat.le_of_ble_eq_true rfl) (Nat.le_refl _) (Nat.le_refl _) (fun h hx => ?_)
    obtain ⟨τ2, hs2, hd2, hf⟩ := hx
    refine zr_aload_n hO (hl := rfl) (j := 0) (hi := rfl) dX3_jump_27 ?_
    refine zr_iload_n hO (hl := rfl) (j := 1) (hi := rfl) dX3_jump_28 ?_
    refine zr_cVi hO zc_X3 zw_X3_177 (c_X3_rowOf hI hf (rfl : τ2.2 21 = (τ2.2 21)) n (by omega) (by omega)) dX3_jump_29 (zrd_of hf.1) rfl (rest := []) rfl ⟨Nat.le_of_ble_eq_true rfl, Nat.le_of_ble_eq_true rfl⟩ (Nat.le_of_ble_eq_true rfl) (Nat.le_refl _) (Nat.le_refl _) (fun x h hx => ?_)
    obtain ⟨hx, hf⟩ := hx
    have hx : x = gshn ((τ2.2 21)) n := hx
    subst hx
    exact zr_ireturn hO dX3_jump_32 ⟨(by rw [if_pos c9]; exact gshn_of hd2.2.2 (by rw [gjt_0 n hj1 hj2]; omega)), τ2, (((hs2.1 0 (by decide) (by decide)).trans ((hs1.1 0 (by decide) (by decide)).trans rfl))), (by rw [if_pos c9]; exact zCo.eq (((((((zCo.refl σ).uS (k := 0) (by decide) (1 - (zB (1 ≤ n ∧ n ≤ g 0)))).cA 3 (grem A g u)).cS 6 (gret u)).cA 1 (gjt g n)).tr hs1).tr hs2) (fun k => by simp only [zuS, zuA, zset] <;> (repeat' split) <;> first | rfl | omega) (fun k hk => by simp only [zuS, zuA, zset] <;> (repeat' split) <;> first | rfl | omega)), hf⟩
  · skip
    have c9 := zB_eq c9
    refine zr_iconst hO dX3_jump_12 ?_
    exact zr_ireturn hO dX3_jump_13 ⟨(by rw [if_neg c9]), (zuS σ 0 (1 - (zB (1 ≤ n ∧ n ≤ g 0)))), (rfl), (by rw [if_neg c9]; exact ((zCo.refl σ).uS (k := 0) (by decide) (1 - (zB (1 ≤ n ∧ n ≤ g 0))))), hf⟩
theorem c_X3_follow {G : zG} {r : Nat} {ad : Nat → Nat} {h0 : zHp} (hI : zRI r ad) {σ : zS} {h : zHp} (hf : zRf r ad σ h0 h) {g : Nat → Int} (hg : σ.2 1 = g) {b : Nat → Int} (hb : σ.2 7 = b) {A : Nat → Int} (hA : σ.2 3 = A) {o : Nat → Int} (ho : σ.2 27 = o) {m9 : Nat → Int} (hm9 : σ.2 28 = m9) {q : Int} (hq : σ.1 8 = q) {u : Int} (hu : σ.1 6 = u) (hc1 : zR (g 2)) (hj1 : 0 ≤ g 3) (hj2 : g 3 ≤ 10) (hj3 : 0 ≤ g 4) (hj4 : g 4 ≤ 10) (hcg : gcu g ≤ g 0) (hcg0 : 0 ≤ gcu g) (hu1 : 0 ≤ u) (hu2 : u ≤ 8) (hq1 : 0 ≤ q) (hq2 : q ≤ 700) (hw : zwf g) : zC G yX3_follow cX3_follow 3 (some Jvm.ClassFile.FieldType.int) 11 246 0 0 [zp r] h (zPi (fun x h' => x = (if 0 < (if gcu g = 0 then 0 else gtg g (gcu g)) then (if gcu g = 0 then 0 else gtg g (gcu g)) else 0) ∧ ∃ τ : zS, τ.1 0 = (1 - zB (0 < (if gcu g = 0 then 0 else gtg g (gcu g)))) ∧ zCo (if 0 < (if gcu g = 0 then 0 else gtg g (gcu g)) then zuA (zuS (zuA σ 3 (grem A g u)) 6 (gret u)) 1 (gjt g (if gcu g = 0 then 0 else gtg g (gcu g))) else σ) τ ∧ zRf r ad τ h0 h') zNo) := by
  refine zC.of zpn_X3 (Nat.le_of_ble_eq_true rfl) (L := [(0, zp r)]) rfl (fun K hO => ?_)
  obtain ⟨w1, w2, w3⟩ := id hw
  have hgt := gtg_in (g := g) (gcu g)
  refine zr_aload_n hO (hl := rfl) (j := 0) (hi := rfl) dX3_follow_0 ?_
  refine zr_cVi hO zc_X3 zw_X3_260 (c_X3_cursorLine hI hf hg  (by omega) (by omega)) dX3_follow_1 (zrd_of hf.1) rfl (rest := []) rfl ⟨Nat.le_of_ble_eq_true rfl, Nat.le_of_ble_eq_true rfl⟩ (Nat.le_of_ble_eq_true rfl) (Nat.le_refl _) (Nat.le_refl _) (fun x h hx => ?_)
  obtain ⟨hx, hf⟩ := hx
  have hx : x = gcu g := hx
  subst hx
  refine zr_istore_n hO (L' := [(1, zi (gcu g)), (0, zp r)]) (hi := rfl) dX3_follow_4 (Nat.le_of_ble_eq_true rfl) rfl ?_
  refine zr_iload_n hO (hl := rfl) (j := 0) (hi := rfl) dX3_follow_5 ?_
  have hj18 : ∀ (d : Int) (hd : (if gcu g = 0 then 0 else gtg g (gcu g)) = d) (h : zHp) (hf : zRf r ad σ h0 h), zV G K 0 0 h 18 [(1, zi (gcu g)), (0, zp r)] [zi d] := by
    intro d hd h hf
    have hdr : -1 ≤ d ∧ (d ≤ g 0 ∨ d ≤ 0) := by rw [← hd]; split <;> omega
    refine zr_istore_n hO (L' := [(2, zi d), (1, zi (gcu g)), (0, zp r)]) (hi := rfl) dX3_follow_18 (Nat.le_of_ble_eq_true rfl) rfl ?_
    have hj29 : ∀ (b1 : Int) (hb1 : b1 = zB (0 < d)) (h : zHp) (hf : zRf r ad σ h0 h), zV G K 0 0 h 29 [(2, zi d), (1, zi (gcu g)), (0, zp r)] [zi b1, zp r] := by
      intro b1 hb1 h hf
      subst hb1
      refine zr_cVi hO zc_X3 zw_X3_111 (c_X3_may hI hf (zB (0 < d)) (zB_01 _)) dX3_follow_29 (zrd_of hf.1) rfl (rest := []) rfl ⟨Nat.le_of_ble_eq_true rfl, Nat.le_of_ble_eq_true rfl⟩ (Nat.le_of_ble_eq_true rfl) (Nat.le_refl _) (Nat.le_refl _) (fun x h hx => ?_)
      obtain ⟨hx, hf⟩ := hx
      have hx : x = (zB (0 < d)) := hx
      subst hx
      have hf : zRf r ad (zuS σ 0 (1 - (zB (0 < d)))) h0 h := hf
      refine zr_if_ne hO (zR_B _) (tgt := 37) dX3_follow_32 rfl (fun c32 => ?_) (fun c32 => ?_)
      · skip
        have c32 := zB_ne c32
        refine zr_aload_n hO (hl := rfl) (j := 2) (hi := rfl) dX3_follow_37 ?_
        refine zr_cVv hO zc_X3 zw_X3_294 (c_X3_remembers hI hf hg hA hu  (by omega) (by omega)) dX3_follow_38 (zrd_of hf.1) rfl (rest := []) rfl ⟨Nat.le_of_ble_eq_true rfl, Nat.le_of_ble_eq_true rfl⟩ (Nat.le_of_ble_eq_true rfl) (Nat.le_refl _) (Nat.le_refl _) (fun h hx => ?_)
        have hf : zRf r ad (zuS (zuA (zuS σ 0 (1 - (zB (0 < d)))) 3 (grem A g u)) 6 (gret u)) h0 h := hx
        clear hx
        refine zr_aload_n hO (hl := rfl) (j := 2) (hi := rfl) dX3_follow_41 ?_
        refine zr_iload_n hO (hl := rfl) (j := 0) (hi := rfl) dX3_follow_42 ?_
        refine zr_cVv hO zc_X3 zw_X3_323 (c_X3_jumpsTo hI hf hg d (by omega) (by omega) (hc1) (by omega) (by omega) (hw)) dX3_follow_43 (zrd_of hf.1) rfl (rest := []) rfl ⟨Nat.le_of_ble_eq_true rfl, Nat.le_of_ble_eq_true rfl⟩ (Nat.le_of_ble_eq_true rfl) (Nat.le_refl _) (Nat.le_refl _) (fun h hx => ?_)
        obtain ⟨τ1, hs1, hf⟩ := hx
        refine zr_iload_n hO (hl := rfl) (j := 0) (hi := rfl) dX3_follow_46 ?_
        exact zr_ireturn hO dX3_follow_47 ⟨(by rw [hd, if_pos c32]), τ1, (by rw [hd]; exact ((hs1.1 0 (by decide) (by decide)).trans rfl)), (by rw [hd, if_pos c32]; exact zCo.eq ((((((zCo.refl σ).uS (k := 0) (by decide) (1 - (zB (0 < d)))).cA 3 (grem A g u)).cS 6 (gret u)).cA 1 (gjt g d)).tr hs1) (fun k => by simp only [zuS, zuA, zset] <;> (repeat' split) <;> first | rfl | omega) (fun k hk => by simp only [zuS, zuA, zset] <;> (repeat' split) <;> first | rfl | omega)), hf⟩
      · skip
        have c32 := zB_eq c32
        refine zr_iconst hO dX3_follow_35 ?_
        exact zr_ireturn hO dX3_follow_36 ⟨(by rw [hd, if_neg c32]), (zuS σ 0 (1 - (zB (0 < d)))), (by rw [hd]; exact rfl), (by rw [hd, if_neg c32]; exact ((zCo.refl σ).uS (k := 0) (by decide) (1 - (zB (0 < d))))), hf⟩
    refine zr_aload_n hO (hl := rfl) (j := 2) (hi := rfl) dX3_follow_19 ?_
    refine zr_iload_n hO (hl := rfl) (j := 0) (hi := rfl) dX3_follow_20 ?_
    refine zr_if_le hO ⟨by omega, by omega⟩ (tgt := 28) dX3_follow_21 rfl (fun c21 => ?_) (fun c21 => ?_)
    · skip
      refine zr_iconst hO dX3_follow_28 ?_
      exact hj29 0 ((zB_f (by omega)).symm) h hf
    · skip
      refine zr_iconst hO dX3_follow_24 ?_
      refine zr_goto hO (tgt := 29) dX3_follow_25 rfl ?_
      exact hj29 1 ((zB_t (by omega)).symm) h hf
  refine zr_if_ne hO ⟨by omega, by omega⟩ (tgt := 13) dX3_follow_6 rfl (fun c6 => ?_) (fun c6 => ?_)
  · skip
    refine zr_aload_n hO (hl := rfl) (j := 1) (hi := rfl) dX3_follow_13 ?_
    refine zr_iload_n hO (hl := rfl) (j := 0) (hi := rfl) dX3_follow_14 ?_
    refine zr_cVi hO zc_X3 zw_X3_257 (c_X3_targetOf hI hf hg (gcu g) (by omega) (by omega) (hw)) dX3_follow_15 (zrd_of hf.1) rfl (rest := []) rfl ⟨Nat.le_of_ble_eq_true rfl, Nat.le_of_ble_eq_true rfl⟩ (Nat.le_of_ble_eq_true rfl) (Nat.le_refl _) (Nat.le_refl _) (fun x h hx => ?_)
    obtain ⟨hx, hf⟩ := hx
    have hx : x = gtg g (gcu g) := hx
    subst hx
    exact hj18 (gtg g (gcu g)) (if_neg (by omega)) h hf
  · skip
    refine zr_iconst hO dX3_follow_9 ?_
    refine zr_goto hO (tgt := 18) dX3_follow_10 rfl ?_
    exact hj18 0 (if_pos (by omega)) h hf
