/-! THE REFERENCE: back and forward (printed by gen/refs.py) -/
theorem c_X3_takes3 {G : zG} {r : Nat} {ad : Nat → Nat} {h0 : zHp} (hI : zRI r ad) {σ : zS} {h : zHp} (hf : zRf r ad σ h0 h) {g : Nat → Int} (hg : σ.2 1 = g) {b : Nat → Int} (hb : σ.2 7 = b) {A : Nat → Int} (hA : σ.2 3 = A) {o : Nat → Int} (ho : σ.2 27 = o) {m9 : Nat → Int} (hm9 : σ.2 28 = m9) {q : Int} (hq : σ.1 8 = q) {u : Int} (hu : σ.1 6 = u) (hc1 : zR (g 2)) (hj1 : 0 ≤ g 3) (hj2 : g 3 ≤ 10) (hj3 : 0 ≤ g 4) (hj4 : g 4 ≤ 10) (hu1 : 0 ≤ u) (hu2 : u ≤ 8) (hq1 : 0 ≤ q) (hq2 : q ≤ 700) (hw : zwf g) : zC G yX3_takes cX3_takes 5 (some Jvm.ClassFile.FieldType.int) 10 225 0 0 [zp r, zi 3, zi 15, zi 4, zi 25] h (zPi (fun x h' => x = (if 0 < g 3 then gcu (gtkr g 3 15 4 25) else 0) ∧ ∃ τ : zS, τ.1 0 = 1 - zB (0 < g 3) ∧ zCo (if 0 < g 3 then zuA (zuS (zuA σ 3 (grem A g u)) 6 (gret u)) 1 (gtkr g 3 15 4 25) else σ) τ ∧ zRf r ad τ h0 h') zNo) := by
  refine zC.of zpn_X3 (Nat.le_of_ble_eq_true rfl) (L := [(0, zp r), (1, zi 3), (2, zi 15), (3, zi 4), (4, zi 25)]) rfl (fun K hO => ?_)
  obtain ⟨w1, w2, w3⟩ := id hw
  have hj15 : ∀ (b1 : Int) (hb1 : b1 = zB (0 < g 3)) (h : zHp) (hf : zRf r ad σ h0 h), zV G K 0 0 h 15 [(0, zp r), (1, zi 3), (2, zi 15), (3, zi 4), (4, zi 25)] [zi b1, zp r] := by
    intro b1 hb1 h hf
    subst hb1
    refine zr_cVi hO zc_X3 zw_X3_111 (c_X3_may hI hf (zB (0 < g 3)) (zB_01 _)) dX3_takes_15 (zrd_of hf.1) rfl (rest := []) rfl ⟨Nat.le_of_ble_eq_true rfl, Nat.le_of_ble_eq_true rfl⟩ (Nat.le_of_ble_eq_true rfl) (Nat.le_refl _) (Nat.le_refl _) (fun x h hx => ?_)
    obtain ⟨hx, hf⟩ := hx
    have hx : x = (zB (0 < g 3)) := hx
    subst hx
    have hf : zRf r ad (zuS σ 0 (1 - (zB (0 < g 3)))) h0 h := hf
    refine zr_if_ne hO (zR_B _) (tgt := 23) dX3_takes_18 rfl (fun c18 => ?_) (fun c18 => ?_)
    · skip
      have c18 := zB_ne c18
      refine zr_aload_n hO (hl := rfl) (j := 0) (hi := rfl) dX3_takes_23 ?_
      refine zr_cVv hO zc_X3 zw_X3_294 (c_X3_remembers hI hf hg hA hu  (by omega) (by omega)) dX3_takes_24 (zrd_of hf.1) rfl (rest := []) rfl ⟨Nat.le_of_ble_eq_true rfl, Nat.le_of_ble_eq_true rfl⟩ (Nat.le_of_ble_eq_true rfl) (Nat.le_refl _) (Nat.le_refl _) (fun h hx => ?_)
      have hf : zRf r ad (zuS (zuA (zuS σ 0 (1 - (zB (0 < g 3)))) 3 (grem A g u)) 6 (gret u)) h0 h := hx
      clear hx
      refine zr_aload_n hO (hl := rfl) (j := 0) (hi := rfl) dX3_takes_27 ?_
      refine zr_iload_n hO (hl := rfl) (j := 3) (hi := rfl) dX3_takes_28 ?_
      refine zr_iload hO (hl := rfl) (j := 4) dX3_takes_29 ?_
      refine zr_aload_n hO (hl := rfl) (j := 0) (hi := rfl) dX3_takes_31 ?_
      refine zs_arr hO hf 1 dX3_takes_32 q2971 (Nat.le_of_ble_eq_true rfl) rfl ?_
      refine zr_iconst hO dX3_takes_35 ?_
      refine zs_ild hO hf 1 (f := g) (n := 2195) (j := 2) dX3_takes_36 rfl rfl rfl hg (by omega) (by omega) rfl (fun ⟨r2a, r2b⟩ => ?_)
      refine zr_cVv hO zc_X3 zw_X3_317 (c_X3_puts hI hf hg 4 25 (g 2) (by omega) (by omega) (by decide) (hj3) (hj4) (hc1)) dX3_takes_37 (zrd_of hf.1) rfl (rest := []) rfl ⟨Nat.le_of_ble_eq_true rfl, Nat.le_of_ble_eq_true rfl⟩ (Nat.le_of_ble_eq_true rfl) (Nat.le_refl _) (Nat.le_refl _) (fun h hx => ?_)
      have hf : zRf r ad (zuA (zuS (zuA (zuS σ 0 (1 - (zB (0 < g 3)))) 3 (grem A g u)) 6 (gret u)) 1 (gpu g (4 : Int).toNat 25 (g 2))) h0 h := hx
      clear hx
      refine zr_aload_n hO (hl := rfl) (j := 0) (hi := rfl) dX3_takes_40 ?_
      refine zs_arr hO hf 1 dX3_takes_41 q2971 (Nat.le_of_ble_eq_true rfl) rfl ?_
      refine zr_iload_n hO (hl := rfl) (j := 1) (hi := rfl) dX3_takes_44 ?_
      refine zr_dup2 hO rfl rfl dX3_takes_45 ?_
      refine zs_ild hO hf 1 (f := gpu g (4 : Int).toNat 25 (g 2)) (n := 2195) (j := 3) dX3_takes_46 rfl rfl rfl rfl (by omega) (by omega) rfl (fun ⟨r3a, r3b⟩ => ?_)
      have hga : gpu g 4 25 (g 2) 3 = g 3 := gpu_at (by omega) (by omega) (by decide) (by decide)
      rw [show ((gpu g (4 : Int).toNat 25 (g 2)) 3) = g 3 from hga]
      refine zr_iconst hO dX3_takes_47 ?_
      refine zr_isub hO dX3_takes_48 ?_
      refine zs_ist hO hI hf 1 (f := gpu g (4 : Int).toNat 25 (g 2)) (n := 2195) (j := 3) dX3_takes_49 rfl rfl rfl rfl (by omega) (by omega) rfl ⟨by omega, by omega⟩ (fun h hf => ?_)
      have hf : zRf r ad (zuA (zuS (zuA (zuS σ 0 (1 - (zB (0 < g 3)))) 3 (grem A g u)) 6 (gret u)) 1 (gtq g 3 4 25)) h0 h := zRf_eq (by rw [zuA_uA]; rfl) hf
      have hq9 := gtq_ln g (w1 := 3) (w2 := 4) (p2 := 25) (by decide) (by decide) (by omega) (by omega) (by decide) (by decide)
      refine zr_aload_n hO (hl := rfl) (j := 0) (hi := rfl) dX3_takes_50 ?_
      refine zr_aload_n hO (hl := rfl) (j := 0) (hi := rfl) dX3_takes_51 ?_
      refine zs_arr hO hf 1 dX3_takes_52 q2971 (Nat.le_of_ble_eq_true rfl) rfl ?_
      refine zr_iload_n hO (hl := rfl) (j := 2) (hi := rfl) dX3_takes_55 ?_
      refine zr_aload_n hO (hl := rfl) (j := 0) (hi := rfl) dX3_takes_56 ?_
      refine zs_arr hO hf 1 dX3_takes_57 q2971 (Nat.le_of_ble_eq_true rfl) rfl ?_
      refine zr_iload_n hO (hl := rfl) (j := 1) (hi := rfl) dX3_takes_60 ?_
      refine zs_ild hO hf 1 (f := gtq g 3 4 25) (n := 2195) (j := 3) dX3_takes_61 rfl rfl rfl rfl (by omega) (by omega) rfl (fun ⟨r4a, r4b⟩ => ?_)
      rw [show ((gtq g 3 4 25) 3) = g 3 - 1 from zset_s]
      refine zr_iadd hO dX3_takes_62 ?_
      refine zs_ild hO hf 1 (f := gtq g 3 4 25) (n := 2195) (j := (15 + (g 3 - 1)).toNat) dX3_takes_63 rfl rfl rfl rfl (by omega) (by omega) rfl (fun ⟨r5a, r5b⟩ => ?_)
      refine zr_cVv hO zc_X3 zw_X3_320 (c_X3_comesTo hI hf (zuA_at (zuS (zuA (zuS σ 0 (1 - (zB (0 < g 3)))) 3 (grem A g u)) 6 (gret u)) 1 (gtq g 3 4 25)) ((gtq g 3 4 25) ((15 + (g 3 - 1)).toNat)) (⟨by omega, by omega⟩) (zwf_lo hq9 hw)) dX3_takes_64 (zrd_of hf.1) rfl (rest := []) rfl ⟨Nat.le_of_ble_eq_true rfl, Nat.le_of_ble_eq_true rfl⟩ (Nat.le_of_ble_eq_true rfl) (Nat.le_refl _) (Nat.le_refl _) (fun h hx => ?_)
      obtain ⟨τ1, hs1, hf⟩ := hx
      refine zr_aload_n hO (hl := rfl) (j := 0) (hi := rfl) dX3_takes_67 ?_
      refine zr_cVi hO zc_X3 zw_X3_260 (c_X3_cursorLine hI hf ((hs1.2 1 rfl).trans (zuA_at (zuA (zuS (zuA (zuS σ 0 (1 - (zB (0 < g 3)))) 3 (grem A g u)) 6 (gret u)) 1 (gtq g 3 4 25)) 1 (gct (gtq g 3 4 25) ((gtq g 3 4 25) ((15 + (g 3 - 1)).toNat)))))  ((gct_lk hq9 _).1 ▸ w1) ((gct_lk hq9 _).1 ▸ w2)) dX3_takes_68 (zrd_of hf.1) rfl (rest := []) rfl ⟨Nat.le_of_ble_eq_true rfl, Nat.le_of_ble_eq_true rfl⟩ (Nat.le_of_ble_eq_true rfl) (Nat.le_refl _) (Nat.le_refl _) (fun x h hx => ?_)
      obtain ⟨hx, hf⟩ := hx
      have hx : x = gcu (gct (gtq g 3 4 25) ((gtq g 3 4 25) ((15 + (g 3 - 1)).toNat))) := hx
      subst hx
      exact zr_ireturn hO dX3_takes_71 ⟨(by rw [if_pos c18]; rfl), τ1, ((hs1.1 0 (by decide) (by decide)).trans rfl), (by rw [if_pos c18]; exact zCo.eq (((((((zCo.refl σ).uS (k := 0) (by decide) (1 - (zB (0 < g 3)))).cA 3 (grem A g u)).cS 6 (gret u)).cA 1 (gtq g 3 4 25)).cA 1 (gct (gtq g 3 4 25) ((gtq g 3 4 25) ((15 + (g 3 - 1)).toNat)))).tr hs1) (fun k => by simp only [zuS, zuA, zset] <;> (repeat' split) <;> first | rfl | omega) (fun k hk => by simp only [zuS, zuA, zset] <;> (repeat' split) <;> first | rfl | omega)), hf⟩
    · skip
      have c18 := zB_eq c18
      refine zr_iconst hO dX3_takes_21 ?_
      exact zr_ireturn hO dX3_takes_22 ⟨(by rw [if_neg c18]), zuS σ 0 (1 - (zB (0 < g 3))), rfl, (by rw [if_neg c18]; exact ((zCo.refl σ).uS (k := 0) (by decide) (1 - (zB (0 < g 3))))), hf⟩
  refine zr_aload_n hO (hl := rfl) (j := 0) (hi := rfl) dX3_takes_0 ?_
  refine zr_aload_n hO (hl := rfl) (j := 0) (hi := rfl) dX3_takes_1 ?_
  refine zs_arr hO hf 1 dX3_takes_2 q2971 (Nat.le_of_ble_eq_true rfl) rfl ?_
  refine zr_iload_n hO (hl := rfl) (j := 1) (hi := rfl) dX3_takes_5 ?_
  refine zs_ild hO hf 1 (f := g) (n := 2195) (j := 3) dX3_takes_6 rfl rfl rfl hg (by omega) (by omega) rfl (fun ⟨r7a, r7b⟩ => ?_)
  refine zr_if_le hO ⟨by omega, by omega⟩ (tgt := 14) dX3_takes_7 rfl (fun c7 => ?_) (fun c7 => ?_)
  · skip
    refine zr_iconst hO dX3_takes_14 ?_
    exact hj15 0 ((zB_f (by omega)).symm) h hf
  · skip
    refine zr_iconst hO dX3_takes_10 ?_
    refine zr_goto hO (tgt := 15) dX3_takes_11 rfl ?_
    exact hj15 1 ((zB_t (by omega)).symm) h hf
theorem zw_X3_326 : zYw RX3 RX3 326 yX3_takes cX3_takes 5 (some Jvm.ClassFile.FieldType.int) 4 := ⟨q3556, q3558, qs102, q116, q3559, rfl, ⟨by decide +kernel, by decide +kernel, by decide +kernel⟩⟩
theorem c_X3_back {G : zG} {r : Nat} {ad : Nat → Nat} {h0 : zHp} (hI : zRI r ad) {σ : zS} {h : zHp} (hf : zRf r ad σ h0 h) {g : Nat → Int} (hg : σ.2 1 = g) {b : Nat → Int} (hb : σ.2 7 = b) {A : Nat → Int} (hA : σ.2 3 = A) {o : Nat → Int} (ho : σ.2 27 = o) {m9 : Nat → Int} (hm9 : σ.2 28 = m9) {q : Int} (hq : σ.1 8 = q) {u : Int} (hu : σ.1 6 = u) (hc1 : zR (g 2)) (hj1 : 0 ≤ g 3) (hj2 : g 3 ≤ 10) (hj3 : 0 ≤ g 4) (hj4 : g 4 ≤ 10) (hu1 : 0 ≤ u) (hu2 : u ≤ 8) (hq1 : 0 ≤ q) (hq2 : q ≤ 700) (hw : zwf g) : zC G yX3_back cX3_back 1 (some Jvm.ClassFile.FieldType.int) 11 249 0 0 [zp r] h (zPi (fun x h' => x = (if 0 < g 3 then gcu (gtkr g 3 15 4 25) else 0) ∧ ∃ τ : zS, τ.1 0 = (1 - zB (0 < g 3)) ∧ zCo (if 0 < g 3 then zuA (zuS (zuA σ 3 (grem A g u)) 6 (gret u)) 1 (gtkr g 3 15 4 25) else σ) τ ∧ zRf r ad τ h0 h') zNo) := by
  refine zC.of zpn_X3 (Nat.le_of_ble_eq_true rfl) (L := [(0, zp r)]) rfl (fun K hO => ?_)
  obtain ⟨w1, w2, w3⟩ := id hw
  refine zr_aload_n hO (hl := rfl) (j := 0) (hi := rfl) dX3_back_0 ?_
  refine zr_iconst hO dX3_back_1 ?_
  refine zr_bipush hO (by decide) dX3_back_2 ?_
  refine zr_iconst hO dX3_back_4 ?_
  refine zr_bipush hO (by decide) dX3_back_5 ?_
  refine zr_cVi hO zc_X3 zw_X3_326 (c_X3_takes3 hI hf hg hb hA ho hm9 hq hu  (⟨by omega, by omega⟩) (by omega) (by omega) (by omega) (by omega) (by omega) (by omega) (by omega) (by omega) (hw)) dX3_back_7 (zrd_of hf.1) rfl (rest := []) rfl ⟨Nat.le_of_ble_eq_true rfl, Nat.le_of_ble_eq_true rfl⟩ (Nat.le_of_ble_eq_true rfl) (Nat.le_refl _) (Nat.le_refl _) (fun x h hx => ?_)
  obtain ⟨hxv, τ1, ht1, hs1, hf⟩ := hx
  have hxv : x = if 0 < g 3 then gcu (gtkr g 3 15 4 25) else 0 := hxv
  rw [hxv]
  exact zr_ireturn hO dX3_back_10 ⟨rfl, τ1, (ht1), hs1, hf⟩
theorem c_X3_takes4 {G : zG} {r : Nat} {ad : Nat → Nat} {h0 : zHp} (hI : zRI r ad) {σ : zS} {h : zHp} (hf : zRf r ad σ h0 h) {g : Nat → Int} (hg : σ.2 1 = g) {b : Nat → Int} (hb : σ.2 7 = b) {A : Nat → Int} (hA : σ.2 3 = A) {o : Nat → Int} (ho : σ.2 27 = o) {m9 : Nat → Int} (hm9 : σ.2 28 = m9) {q : Int} (hq : σ.1 8 = q) {u : Int} (hu : σ.1 6 = u) (hc1 : zR (g 2)) (hj1 : 0 ≤ g 3) (hj2 : g 3 ≤ 10) (hj3 : 0 ≤ g 4) (hj4 : g 4 ≤ 10) (hu1 : 0 ≤ u) (hu2 : u ≤ 8) (hq1 : 0 ≤ q) (hq2 : q ≤ 700) (hw : zwf g) : zC G yX3_takes cX3_takes 5 (some Jvm.ClassFile.FieldType.int) 10 225 0 0 [zp r, zi 4, zi 25, zi 3, zi 15] h (zPi (fun x h' => x = (if 0 < g 4 then gcu (gtkr g 4 25 3 15) else 0) ∧ ∃ τ : zS, τ.1 0 = 1 - zB (0 < g 4) ∧ zCo (if 0 < g 4 then zuA (zuS (zuA σ 3 (grem A g u)) 6 (gret u)) 1 (gtkr g 4 25 3 15) else σ) τ ∧ zRf r ad τ h0 h') zNo) := by
  refine zC.of zpn_X3 (Nat.le_of_ble_eq_true rfl) (L := [(0, zp r), (1, zi 4), (2, zi 25), (3, zi 3), (4, zi 15)]) rfl (fun K hO => ?_)
  obtain ⟨w1, w2, w3⟩ := id hw
  have hj15 : ∀ (b1 : Int) (hb1 : b1 = zB (0 < g 4)) (h : zHp) (hf : zRf r ad σ h0 h), zV G K 0 0 h 15 [(0, zp r), (1, zi 4), (2, zi 25), (3, zi 3), (4, zi 15)] [zi b1, zp r] := by
    intro b1 hb1 h hf
    subst hb1
    refine zr_cVi hO zc_X3 zw_X3_111 (c_X3_may hI hf (zB (0 < g 4)) (zB_01 _)) dX3_takes_15 (zrd_of hf.1) rfl (rest := []) rfl ⟨Nat.le_of_ble_eq_true rfl, Nat.le_of_ble_eq_true rfl⟩ (Nat.le_of_ble_eq_true rfl) (Nat.le_refl _) (Nat.le_refl _) (fun x h hx => ?_)
    obtain ⟨hx, hf⟩ := hx
    have hx : x = (zB (0 < g 4)) := hx
    subst hx
    have hf : zRf r ad (zuS σ 0 (1 - (zB (0 < g 4)))) h0 h := hf
    refine zr_if_ne hO (zR_B _) (tgt := 23) dX3_takes_18 rfl (fun c18 => ?_) (fun c18 => ?_)
    · skip
      have c18 := zB_ne c18
      refine zr_aload_n hO (hl := rfl) (j := 0) (hi := rfl) dX3_takes_23 ?_
      refine zr_cVv hO zc_X3 zw_X3_294 (c_X3_remembers hI hf hg hA hu  (by omega) (by omega)) dX3_takes_24 (zrd_of hf.1) rfl (rest := []) rfl ⟨Nat.le_of_ble_eq_true rfl, Nat.le_of_ble_eq_true rfl⟩ (Nat.le_of_ble_eq_true rfl) (Nat.le_refl _) (Nat.le_refl _) (fun h hx => ?_)
      have hf : zRf r ad (zuS (zuA (zuS σ 0 (1 - (zB (0 < g 4)))) 3 (grem A g u)) 6 (gret u)) h0 h := hx
      clear hx
      refine zr_aload_n hO (hl := rfl) (j := 0) (hi := rfl) dX3_takes_27 ?_
      refine zr_iload_n hO (hl := rfl) (j := 3) (hi := rfl) dX3_takes_28 ?_
      refine zr_iload hO (hl := rfl) (j := 4) dX3_takes_29 ?_
      refine zr_aload_n hO (hl := rfl) (j := 0) (hi := rfl) dX3_takes_31 ?_
      refine zs_arr hO hf 1 dX3_takes_32 q2971 (Nat.le_of_ble_eq_true rfl) rfl ?_
      refine zr_iconst hO dX3_takes_35 ?_
      refine zs_ild hO hf 1 (f := g) (n := 2195) (j := 2) dX3_takes_36 rfl rfl rfl hg (by omega) (by omega) rfl (fun ⟨r2a, r2b⟩ => ?_)
      refine zr_cVv hO zc_X3 zw_X3_317 (c_X3_puts hI hf hg 3 15 (g 2) (by omega) (by omega) (by decide) (hj1) (hj2) (hc1)) dX3_takes_37 (zrd_of hf.1) rfl (rest := []) rfl ⟨Nat.le_of_ble_eq_true rfl, Nat.le_of_ble_eq_true rfl⟩ (Nat.le_of_ble_eq_true rfl) (Nat.le_refl _) (Nat.le_refl _) (fun h hx => ?_)
      have hf : zRf r ad (zuA (zuS (zuA (zuS σ 0 (1 - (zB (0 < g 4)))) 3 (grem A g u)) 6 (gret u)) 1 (gpu g (3 : Int).toNat 15 (g 2))) h0 h := hx
      clear hx
      refine zr_aload_n hO (hl := rfl) (j := 0) (hi := rfl) dX3_takes_40 ?_
      refine zs_arr hO hf 1 dX3_takes_41 q2971 (Nat.le_of_ble_eq_true rfl) rfl ?_
      refine zr_iload_n hO (hl := rfl) (j := 1) (hi := rfl) dX3_takes_44 ?_
      refine zr_dup2 hO rfl rfl dX3_takes_45 ?_
      refine zs_ild hO hf 1 (f := gpu g (3 : Int).toNat 15 (g 2)) (n := 2195) (j := 4) dX3_takes_46 rfl rfl rfl rfl (by omega) (by omega) rfl (fun ⟨r3a, r3b⟩ => ?_)
      have hga : gpu g 3 15 (g 2) 4 = g 4 := gpu_at (by omega) (by omega) (by decide) (by decide)
      rw [show ((gpu g (3 : Int).toNat 15 (g 2)) 4) = g 4 from hga]
      refine zr_iconst hO dX3_takes_47 ?_
      refine zr_isub hO dX3_takes_48 ?_
      refine zs_ist hO hI hf 1 (f := gpu g (3 : Int).toNat 15 (g 2)) (n := 2195) (j := 4) dX3_takes_49 rfl rfl rfl rfl (by omega) (by omega) rfl ⟨by omega, by omega⟩ (fun h hf => ?_)
      have hf : zRf r ad (zuA (zuS (zuA (zuS σ 0 (1 - (zB (0 < g 4)))) 3 (grem A g u)) 6 (gret u)) 1 (gtq g 4 3 15)) h0 h := zRf_eq (by rw [zuA_uA]; rfl) hf
      have hq9 := gtq_ln g (w1 := 4) (w2 := 3) (p2 := 15) (by decide) (by decide) (by omega) (by omega) (by decide) (by decide)
      refine zr_aload_n hO (hl := rfl) (j := 0) (hi := rfl) dX3_takes_50 ?_
      refine zr_aload_n hO (hl := rfl) (j := 0) (hi := rfl) dX3_takes_51 ?_
      refine zs_arr hO hf 1 dX3_takes_52 q2971 (Nat.le_of_ble_eq_true rfl) rfl ?_
      refine zr_iload_n hO (hl := rfl) (j := 2) (hi := rfl) dX3_takes_55 ?_
      refine zr_aload_n hO (hl := rfl) (j := 0) (hi := rfl) dX3_takes_56 ?_
      refine zs_arr hO hf 1 dX3_takes_57 q2971 (Nat.le_of_ble_eq_true rfl) rfl ?_
      refine zr_iload_n hO (hl := rfl) (j := 1) (hi := rfl) dX3_takes_60 ?_
      refine zs_ild hO hf 1 (f := gtq g 4 3 15) (n := 2195) (j := 4) dX3_takes_61 rfl rfl rfl rfl (by omega) (by omega) rfl (fun ⟨r4a, r4b⟩ => ?_)
      rw [show ((gtq g 4 3 15) 4) = g 4 - 1 from zset_s]
      refine zr_iadd hO dX3_takes_62 ?_
      refine zs_ild hO hf 1 (f := gtq g 4 3 15) (n := 2195) (j := (25 + (g 4 - 1)).toNat) dX3_takes_63 rfl rfl rfl rfl (by omega) (by omega) rfl (fun ⟨r5a, r5b⟩ => ?_)
      refine zr_cVv hO zc_X3 zw_X3_320 (c_X3_comesTo hI hf (zuA_at (zuS (zuA (zuS σ 0 (1 - (zB (0 < g 4)))) 3 (grem A g u)) 6 (gret u)) 1 (gtq g 4 3 15)) ((gtq g 4 3 15) ((25 + (g 4 - 1)).toNat)) (⟨by omega, by omega⟩) (zwf_lo hq9 hw)) dX3_takes_64 (zrd_of hf.1) rfl (rest := []) rfl ⟨Nat.le_of_ble_eq_true rfl, Nat.le_of_ble_eq_true rfl⟩ (Nat.le_of_ble_eq_true rfl) (Nat.le_refl _) (Nat.le_refl _) (fun h hx => ?_)
      obtain ⟨τ1, hs1, hf⟩ := hx
      refine zr_aload_n hO (hl := rfl) (j := 0) (hi := rfl) dX3_takes_67 ?_
      refine zr_cVi hO zc_X3 zw_X3_260 (c_X3_cursorLine hI hf ((hs1.2 1 rfl).trans (zuA_at (zuA (zuS (zuA (zuS σ 0 (1 - (zB (0 < g 4)))) 3 (grem A g u)) 6 (gret u)) 1 (gtq g 4 3 15)) 1 (gct (gtq g 4 3 15) ((gtq g 4 3 15) ((25 + (g 4 - 1)).toNat)))))  ((gct_lk hq9 _).1 ▸ w1) ((gct_lk hq9 _).1 ▸ w2)) dX3_takes_68 (zrd_of hf.1) rfl (rest := []) rfl ⟨Nat.le_of_ble_eq_true rfl, Nat.le_of_ble_eq_true rfl⟩ (Nat.le_of_ble_eq_true rfl) (Nat.le_refl _) (Nat.le_refl _) (fun x h hx => ?_)
      obtain ⟨hx, hf⟩ := hx
      have hx : x = gcu (gct (gtq g 4 3 15) ((gtq g 4 3 15) ((25 + (g 4 - 1)).toNat))) := hx
      subst hx
      exact zr_ireturn hO dX3_takes_71 ⟨(by rw [if_pos c18]; rfl), τ1, ((hs1.1 0 (by decide) (by decide)).trans rfl), (by rw [if_pos c18]; exact zCo.eq (((((((zCo.refl σ).uS (k := 0) (by decide) (1 - (zB (0 < g 4)))).cA 3 (grem A g u)).cS 6 (gret u)).cA 1 (gtq g 4 3 15)).cA 1 (gct (gtq g 4 3 15) ((gtq g 4 3 15) ((25 + (g 4 - 1)).toNat)))).tr hs1) (fun k => by simp only [zuS, zuA, zset] <;> (repeat' split) <;> first | rfl | omega) (fun k hk => by simp only [zuS, zuA, zset] <;> (repeat' split) <;> first | rfl | omega)), hf⟩
    · skip
      have c18 := zB_eq c18
      refine zr_iconst hO dX3_takes_21 ?_
      exact zr_ireturn hO dX3_takes_22 ⟨(by rw [if_neg c18]), zuS σ 0 (1 - (zB (0 < g 4))), rfl, (by rw [if_neg c18]; exact ((zCo.refl σ).uS (k := 0) (by decide) (1 - (zB (0 < g 4))))), hf⟩
  refine zr_aload_n hO (hl := rfl) (j := 0) (hi := rfl) dX3_takes_0 ?_
  refine zr_aload_n hO (hl := rfl) (j := 0) (hi := rfl) dX3_takes_1 ?_
  refine zs_arr hO hf 1 dX3_takes_2 q2971 (Nat.le_of_ble_eq_true rfl) rfl ?_
  refine zr_iload_n hO (hl := rfl) (j := 1) (hi := rfl) dX3_takes_5 ?_
  refine zs_ild hO hf 1 (f := g) (n := 2195) (j := 4) dX3_takes_6 rfl rfl rfl hg (by omega) (by omega) rfl (fun ⟨r7a, r7b⟩ => ?_)
  refine zr_if_le hO ⟨by omega, by omega⟩ (tgt := 14) dX3_takes_7 rfl (fun c7 => ?_) (fun c7 => ?_)
  · skip
    refine zr_iconst hO dX3_takes_14 ?_
    exact hj15 0 ((zB_f (by omega)).symm) h hf
  · skip
    refine zr_iconst hO dX3_takes_10 ?_
    refine zr_goto hO (tgt := 15) dX3_takes_11 rfl ?_
    exact hj15 1 ((zB_t (by omega)).symm) h hf
theorem c_X3_forward {G : zG} {r : Nat} {ad : Nat → Nat} {h0 : zHp} (hI : zRI r ad) {σ : zS} {h : zHp} (hf : zRf r ad σ h0 h) {g : Nat → Int} (hg : σ.2 1 = g) {b : Nat → Int} (hb : σ.2 7 = b) {A : Nat → Int} (hA : σ.2 3 = A) {o : Nat → Int} (ho : σ.2 27 = o) {m9 : Nat → Int} (hm9 : σ.2 28 = m9) {q : Int} (hq : σ.1 8 = q) {u : Int} (hu : σ.1 6 = u) (hc1 : zR (g 2)) (hj1 : 0 ≤ g 3) (hj2 : g 3 ≤ 10) (hj3 : 0 ≤ g 4) (hj4 : g 4 ≤ 10) (hu1 : 0 ≤ u) (hu2 : u ≤ 8) (hq1 : 0 ≤ q) (hq2 : q ≤ 700) (hw : zwf g) : zC G yX3_forward cX3_forward 1 (some Jvm.ClassFile.FieldType.int) 11 249 0 0 [zp r] h (zPi (fun x h' => x = (if 0 < g 4 then gcu (gtkr g 4 25 3 15) else 0) ∧ ∃ τ : zS, τ.1 0 = (1 - zB (0 < g 4)) ∧ zCo (if 0 < g 4 then zuA (zuS (zuA σ 3 (grem A g u)) 6 (gret u)) 1 (gtkr g 4 25 3 15) else σ) τ ∧ zRf r ad τ h0 h') zNo) := by
  refine zC.of zpn_X3 (Nat.le_of_ble_eq_true rfl) (L := [(0, zp r)]) rfl (fun K hO => ?_)
  obtain ⟨w1, w2, w3⟩ := id hw
  refine zr_aload_n hO (hl := rfl) (j := 0) (hi := rfl) dX3_forward_0 ?_
  refine zr_iconst hO dX3_forward_1 ?_
  refine zr_bipush hO (by decide) dX3_forward_2 ?_
  refine zr_iconst hO dX3_forward_4 ?_
  refine zr_bipush hO (by decide) dX3_forward_5 ?_
  refine zr_cVi hO zc_X3 zw_X3_326 (c_X3_takes4 hI hf hg hb hA ho hm9 hq hu  (⟨by omega, by omega⟩) (by omega) (by omega) (by omega) (by omega) (by omega) (by omega) (by omega) (by omega) (hw)) dX3_forward_7 (zrd_of hf.1) rfl (rest := []) rfl ⟨Nat.le_of_ble_eq_true rfl, Nat.le_of_ble_eq_true rfl⟩ (Nat.le_of_ble_eq_true rfl) (Nat.le_refl _) (Nat.le_refl _) (fun x h hx => ?_)
  obtain ⟨hxv, τ1, ht1, hs1, hf⟩ := hx
  have hxv : x = if 0 < g 4 then gcu (gtkr g 4 25 3 15) else 0 := hxv
  rw [hxv]
  exact zr_ireturn hO dX3_forward_10 ⟨rfl, τ1, (ht1), hs1, hf⟩
