/-! THE REFERENCE: what would be if (printed by gen/refs.py) -/
theorem c_X3_copies {G : zG} {r : Nat} {ad : Nat → Nat} {h0 : zHp} (hI : zRI r ad) {σ : zS} {h : zHp} (hf : zRf r ad σ h0 h) (j1 j2 : Nat) (p1 p2 : Int) (ha1 : zRA j1 = true) (ht1 : zRT j1 = 0) (ha2 : zRA j2 = true) (ht2 : zRT j2 = 0) (q1 : 0 ≤ p1) (q2 : p1 + 2195 ≤ zRN j1) (q3 : 0 ≤ p2) (q4 : p2 + 2195 ≤ zRN j2) (hne : j1 ≠ j2 ∨ p2 + 2195 ≤ p1) (z1 : p1 ≤ 20000) (z2 : p2 ≤ 20000) : zC G yX3_copies cX3_copies 5 none 0 0 0 0 [zp (ad j1), zi p1, zp (ad j2), zi p2] h (zPv (fun h' => zRf r ad (zuA σ j2 (gcp (σ.2 j1) p1 (σ.2 j2) p2 2195)) h0 h') zNo) := by
  refine zC.of zpn_X3 (Nat.le_of_ble_eq_true rfl) (L := [(0, zp (ad j1)), (1, zi p1), (2, zp (ad j2)), (3, zi p2)]) rfl (fun K hO => ?_)
  refine zr_iconst hO dX3_copies_0 ?_
  refine zr_istore hO (L' := [(4, zi 0), (0, zp (ad j1)), (1, zi p1), (2, zp (ad j2)), (3, zi p2)]) dX3_copies_1 (Nat.le_of_ble_eq_true rfl) rfl ?_
  have hl : ∀ (n9 : Nat) (i : Int), (2195 - i).toNat = n9 → ∀ (i1 : 0 ≤ i) (i2 : i ≤ 2195) (h : zHp) (hf : zRf r ad (zuA σ j2 (gcp (σ.2 j1) p1 (σ.2 j2) p2 i)) h0 h), zV G K 0 0 h 3 [(4, zi i), (0, zp (ad j1)), (1, zi p1), (2, zp (ad j2)), (3, zi p2)] [] := by
    intro n9
    induction n9 using Nat.strongRecOn with
    | _ n9 ih =>
    intro i hn i1 i2 h hf
    refine zr_iload hO (hl := rfl) (j := 0) dX3_copies_3 ?_
    refine zr_sipush hO (by decide) dX3_copies_5 ?_
    refine zr_icmp_ge hO ⟨by omega, by omega⟩ ⟨by omega, by omega⟩ (tgt := 29) dX3_copies_8 rfl (fun c => ?_) (fun c => ?_)
    · rw [show i = 2195 by omega] at hf
      exact zr_return hO dX3_copies_29 hf
    · refine zr_aload_n hO (hl := rfl) (j := 3) (hi := rfl) dX3_copies_11 ?_
      refine zr_iload_n hO (hl := rfl) (j := 4) (hi := rfl) dX3_copies_12 ?_
      refine zr_iload hO (hl := rfl) (j := 0) dX3_copies_13 ?_
      refine zr_iadd hO dX3_copies_15 ?_
      refine zr_aload_n hO (hl := rfl) (j := 1) (hi := rfl) dX3_copies_16 ?_
      refine zr_iload_n hO (hl := rfl) (j := 2) (hi := rfl) dX3_copies_17 ?_
      refine zr_iload hO (hl := rfl) (j := 0) dX3_copies_18 ?_
      refine zr_iadd hO dX3_copies_20 ?_
      refine zs_ild hO hf j1 (f := _) (n := zRN j1) (j := (p1 + i).toNat) dX3_copies_21 ha1 ht1 rfl rfl (by omega) (by omega) rfl (fun ⟨ra, rb⟩ => ?_)
      have e : (zuA σ j2 (gcp (σ.2 j1) p1 (σ.2 j2) p2 i)).2 j1 (p1 + i).toNat = σ.2 j1 (p1 + i).toNat := by
        show zset σ.2 j2 _ j1 _ = _
        by_cases q : j1 = j2
        · subst q
          rw [zset_s]
          exact if_neg (by omega)
        · rw [zset_n q]
      rw [e] at ra rb ⊢
      refine zs_ist hO hI hf j2 (f := _) (n := zRN j2) (j := (p2 + i).toNat) dX3_copies_22 ha2 ht2 rfl rfl (by omega) (by omega) rfl ⟨ra, rb⟩ (fun h hf => ?_)
      refine zr_iinc hO (L' := [(4, zi (i + 1)), (0, zp (ad j1)), (1, zi p1), (2, zp (ad j2)), (3, zi p2)]) (j := 0) dX3_copies_23 rfl (Nat.le_of_ble_eq_true rfl) rfl ?_
      refine zr_goto hO (tgt := 3) dX3_copies_26 rfl ?_
      refine ih _ (by omega) (i + 1) rfl (by omega) (by omega) h ?_
      rw [zuA_uA, show (zuA σ j2 (gcp (σ.2 j1) p1 (σ.2 j2) p2 i)).2 j2 = gcp (σ.2 j1) p1 (σ.2 j2) p2 i from zset_s, gcp_s _ _ _ q3 i1] at hf
      exact hf
  exact hl _ 0 rfl (by omega) (by omega) h (by rw [gcp_0, zuA_id]; exact hf)
theorem gcp_eq {r : Nat} {ad : Nat → Nat} {h0 h : zHp} {S : zS} {j : Nat} {a a' b b' : Nat → Int} {p1 p2 m : Int} (e1 : a = a') (e2 : b = b') (hx : zRf r ad (zuA S j (gcp a p1 b p2 m)) h0 h) : zRf r ad (zuA S j (gcp a' p1 b' p2 m)) h0 h := by
  subst e1 e2
  exact hx
theorem c_X3_laysOpened {G : zG} {r : Nat} {ad : Nat → Nat} {h0 : zHp} (hI : zRI r ad) {σ : zS} {h : zHp} (hf : zRf r ad σ h0 h) {g : Nat → Int} (hg : σ.2 1 = g) (n : Int) (hn : zR n) (hw : zwf g) : zC G yX3_laysOpened cX3_laysOpened 4 (some Jvm.ClassFile.FieldType.int) 7 157 0 0 [zp r, zi n] h (zPi (fun x h' => x = (gopm g n) ∧ ∃ τ : zS, zSm σ τ ∧ (∀ m : Int, 0 ≤ m → m ≤ g 0 → τ.2 24 m.toNat = gop g n m) ∧ zRf r ad τ h0 h') zNo) := by
  refine zC.of zpn_X3 (Nat.le_of_ble_eq_true rfl) (L := [(0, zp r), (1, zi n)]) rfl (fun K hO => ?_)
  obtain ⟨w1, w2, w3⟩ := id hw
  obtain ⟨hna, hnb⟩ := hn
  have hN := gN_le g
  refine zr_aload_n hO (hl := rfl) (j := 0) (hi := rfl) dX3_laysOpened_0 ?_
  refine zr_cVv hO zc_X3 zw_X3_174 (c_X3_layAll hI hf hg  (hw)) dX3_laysOpened_1 (zrd_of hf.1) rfl (rest := []) rfl ⟨Nat.le_of_ble_eq_true rfl, Nat.le_of_ble_eq_true rfl⟩ (Nat.le_of_ble_eq_true rfl) (Nat.le_refl _) (Nat.le_refl _) (fun h hx => ?_)
  obtain ⟨τ1, hs1, hd1, hf⟩ := hx
  refine zr_iconst hO dX3_laysOpened_4 ?_
  refine zr_istore_n hO (L' := [(2, zi 0), (0, zp r), (1, zi n)]) (hi := rfl) dX3_laysOpened_5 (Nat.le_of_ble_eq_true rfl) rfl ?_
  have hl6 : ∀ (n9 : Nat) (ρ : zS) (x : Int), (g 0 + 1 - x).toNat = n9 → ∀ (i1 : 0 ≤ x) (i2 : x ≤ g 0 + 1) (hA : ∀ k, k ≠ 24 → ρ.2 k = τ1.2 k) (hB : ∀ k, ρ.1 k = τ1.1 k) (hz : ∀ m : Int, 0 ≤ m → m < x → ρ.2 24 m.toNat = 0) (h : zHp) (hf : zRf r ad ρ h0 h), zV G K 0 0 h 6 [(0, zp r), (1, zi n), (2, zi x)] [] := by
    intro n9
    induction n9 using Nat.strongRecOn with
    | _ n9 ih6 =>
    intro ρ x hn6 i1 i2 hA hB hz h hf
    refine zr_iload_n hO (hl := rfl) (j := 2) (hi := rfl) dX3_laysOpened_6 ?_
    refine zr_aload_n hO (hl := rfl) (j := 0) (hi := rfl) dX3_laysOpened_7 ?_
    refine zs_arr hO hf 1 dX3_laysOpened_8 q2971 (Nat.le_of_ble_eq_true rfl) rfl ?_
    refine zr_iconst hO dX3_laysOpened_11 ?_
    refine zs_ild hO hf 1 (f := g) (n := 2195) (j := 0) dX3_laysOpened_12 rfl rfl rfl ((hA 1 (by decide)).trans ((hs1.2 1 rfl).trans hg)) (by omega) (by omega) rfl (fun ⟨r1a, r1b⟩ => ?_)
    refine zr_icmp_gt hO ⟨by omega, by omega⟩ ⟨by omega, by omega⟩ (tgt := 29) dX3_laysOpened_13 rfl (fun c13 => ?_) (fun c13 => ?_)
    · skip
      refine zr_iconst hO dX3_laysOpened_29 ?_
      refine zr_istore_n hO (L' := [(2, zi 0), (0, zp r), (1, zi n)]) (hi := rfl) dX3_laysOpened_30 (Nat.le_of_ble_eq_true rfl) rfl ?_
      have hl31 : ∀ (n9 : Nat) (ρ : zS) (k : Int), ((gN g : Int) - k).toNat = n9 → ∀ (i1 : 0 ≤ k) (i2 : k ≤ gN g) (hA : ∀ k, k ≠ 24 → ρ.2 k = τ1.2 k) (hB : ∀ k, ρ.1 k = τ1.1 k) (hz : ∀ m : Int, 0 ≤ m → m ≤ g 0 → ρ.2 24 m.toNat = gopk g n k.toNat m) (h : zHp) (hf : zRf r ad ρ h0 h), zV G K 0 0 h 31 [(0, zp r), (1, zi n), (2, zi k)] [] := by
        intro n9
        induction n9 using Nat.strongRecOn with
        | _ n9 ih31 =>
        intro ρ k hn31 i1 i2 hA hB hz h hf
        refine zr_iload_n hO (hl := rfl) (j := 2) (hi := rfl) dX3_laysOpened_31 ?_
        refine zr_aload_n hO (hl := rfl) (j := 0) (hi := rfl) dX3_laysOpened_32 ?_
        refine zs_get hO hf 22 (x := (gN g : Int)) dX3_laysOpened_33 q2992 (Nat.le_of_ble_eq_true rfl) (congrArg (fun z => some (zi z)) ((hB 22).trans hd1.2.1.1)) (fun ⟨r2a, r2b⟩ => ?_)
        have hN := gN_le g
        refine zr_icmp_ge hO ⟨by omega, by omega⟩ ⟨by omega, by omega⟩ (tgt := 74) dX3_laysOpened_36 rfl (fun c36 => ?_) (fun c36 => ?_)
        · skip
          have hop : ∀ m : Int, 0 ≤ m → m ≤ g 0 → ρ.2 24 m.toNat = gop g n m := fun m a b => by have := hz m a b; rw [show k = gN g by omega, Int.toNat_natCast] at this; exact this
          refine zr_iconst hO dX3_laysOpened_74 ?_
          refine zr_istore_n hO (L' := [(2, zi 0), (0, zp r), (1, zi n)]) (hi := rfl) dX3_laysOpened_75 (Nat.le_of_ble_eq_true rfl) rfl ?_
          refine zr_iconst hO dX3_laysOpened_76 ?_
          refine zr_istore_n hO (L' := [(3, zi 1), (2, zi 0), (0, zp r), (1, zi n)]) (hi := rfl) dX3_laysOpened_77 (Nat.le_of_ble_eq_true rfl) rfl ?_
          have hl78 : ∀ (n9 : Nat) (m a : Int), (g 0 + 1 - m).toNat = n9 → ∀ (j1 : 1 ≤ m) (j2 : m ≤ g 0 + 1) (j3 : a = zsn (gop g n) (m - 1).toNat) (h : zHp) (hf : zRf r ad ρ h0 h), zV G K 0 0 h 78 [(0, zp r), (1, zi n), (2, zi a), (3, zi m)] [] := by
            intro n9
            induction n9 using Nat.strongRecOn with
            | _ n9 ih78 =>
            intro m a hn78 j1 j2 j3 h hf
            refine zr_iload_n hO (hl := rfl) (j := 3) (hi := rfl) dX3_laysOpened_78 ?_
            refine zr_aload_n hO (hl := rfl) (j := 0) (hi := rfl) dX3_laysOpened_79 ?_
            refine zs_arr hO hf 1 dX3_laysOpened_80 q2971 (Nat.le_of_ble_eq_true rfl) rfl ?_
            refine zr_iconst hO dX3_laysOpened_83 ?_
            refine zs_ild hO hf 1 (f := g) (n := 2195) (j := 0) dX3_laysOpened_84 rfl rfl rfl ((hA 1 (by decide)).trans ((hs1.2 1 rfl).trans hg)) (by omega) (by omega) rfl (fun ⟨r3a, r3b⟩ => ?_)
            refine zr_icmp_gt hO ⟨by omega, by omega⟩ ⟨by omega, by omega⟩ (tgt := 111) dX3_laysOpened_85 rfl (fun c85 => ?_) (fun c85 => ?_)
            · skip
              refine zr_iload_n hO (hl := rfl) (j := 2) (hi := rfl) dX3_laysOpened_111 ?_
              exact zr_ireturn hO dX3_laysOpened_112 ⟨(by rw [j3, show m - 1 = g 0 by omega]; rfl), _, (hs1.onS (k := 24) rfl hA hB), hop, hf⟩
            · skip
              refine zr_iload_n hO (hl := rfl) (j := 2) (hi := rfl) dX3_laysOpened_88 ?_
              refine zr_aload_n hO (hl := rfl) (j := 0) (hi := rfl) dX3_laysOpened_89 ?_
              refine zs_arr hO hf 24 dX3_laysOpened_90 q2994 (Nat.le_of_ble_eq_true rfl) rfl ?_
              refine zr_iload_n hO (hl := rfl) (j := 3) (hi := rfl) dX3_laysOpened_93 ?_
              refine zs_zld hO hf 24 (f := ρ.2 24) (n := 82) (j := m.toNat) dX3_laysOpened_94 rfl rfl rfl rfl (by omega) (by omega) rfl (fun r4 => ?_)
              refine zr_if_eq hO ⟨by omega, by omega⟩ (tgt := 102) dX3_laysOpened_95 rfl (fun c95 => ?_) (fun c95 => ?_)
              · skip
                refine zr_iconst hO dX3_laysOpened_102 ?_
                refine zr_iadd hO dX3_laysOpened_103 ?_
                refine zr_istore_n hO (L' := [(2, zi (a + 0)), (0, zp r), (1, zi n), (3, zi m)]) (hi := rfl) dX3_laysOpened_104 (Nat.le_of_ble_eq_true rfl) rfl ?_
                refine zr_iinc hO (L' := [(3, zi (m + 1)), (2, zi (a + 0)), (0, zp r), (1, zi n)]) (j := 3) dX3_laysOpened_105 rfl (Nat.le_of_ble_eq_true rfl) rfl ?_
                refine zr_goto hO (tgt := 78) dX3_laysOpened_108 rfl ?_
                refine zV.loc [2, 3, 1, 0] rfl ?_
                exact ih78 _ (by omega) (m + 1) (a + 0) rfl (by omega) (by omega) (by rw [show m + 1 - 1 = m by omega, zsn_p _ j1, ← j3, ← hop m (by omega) (by omega)]; omega) h hf
              · skip
                refine zr_iconst hO dX3_laysOpened_98 ?_
                refine zr_goto hO (tgt := 103) dX3_laysOpened_99 rfl ?_
                refine zr_iadd hO dX3_laysOpened_103 ?_
                refine zr_istore_n hO (L' := [(2, zi (a + 1)), (0, zp r), (1, zi n), (3, zi m)]) (hi := rfl) dX3_laysOpened_104 (Nat.le_of_ble_eq_true rfl) rfl ?_
                refine zr_iinc hO (L' := [(3, zi (m + 1)), (2, zi (a + 1)), (0, zp r), (1, zi n)]) (j := 3) dX3_laysOpened_105 rfl (Nat.le_of_ble_eq_true rfl) rfl ?_
                refine zr_goto hO (tgt := 78) dX3_laysOpened_108 rfl ?_
                refine zV.loc [2, 3, 1, 0] rfl ?_
                exact ih78 _ (by omega) (m + 1) (a + 1) rfl (by omega) (by omega) (by rw [show m + 1 - 1 = m by omega, zsn_p _ j1, ← j3, ← hop m (by omega) (by omega)]; omega) h hf
          refine zV.loc [2, 3, 1, 0] rfl ?_
          exact hl78 _ 1 0 rfl (by omega) (by omega) (rfl) h hf
        · skip
          have hN := gN_le g
          have hrk := hd1.2.1.2 k.toNat (by omega)
          have hgk := g_rows hw (r := k.toNat) (by omega)
          refine zr_aload_n hO (hl := rfl) (j := 0) (hi := rfl) dX3_laysOpened_39 ?_
          refine zr_iload_n hO (hl := rfl) (j := 1) (hi := rfl) dX3_laysOpened_40 ?_
          refine zr_iload_n hO (hl := rfl) (j := 2) (hi := rfl) dX3_laysOpened_41 ?_
          refine zr_cVi hO zc_X3 zw_X3_239 (c_X3_isInside hI hf (hA 14 (by decide)) (hA 15 (by decide)) n k (⟨hna, hnb⟩) (by omega) (by omega)) dX3_laysOpened_42 (zrd_of hf.1) rfl (rest := []) rfl ⟨Nat.le_of_ble_eq_true rfl, Nat.le_of_ble_eq_true rfl⟩ (Nat.le_of_ble_eq_true rfl) (Nat.le_refl _) (Nat.le_refl _) (fun x h hx => ?_)
          obtain ⟨hx, hf⟩ := hx
          have hx : x = zB ((τ1.2 14) k.toNat < n ∧ n < (τ1.2 15) k.toNat) := hx
          subst hx
          refine zr_if_eq hO (zR_B _) (tgt := 68) dX3_laysOpened_45 rfl (fun c45 => ?_) (fun c45 => ?_)
          · skip
            have c45 := zB_eq c45
            refine zr_iinc hO (L' := [(2, zi (k + 1)), (0, zp r), (1, zi n)]) (j := 2) dX3_laysOpened_68 rfl (Nat.le_of_ble_eq_true rfl) rfl ?_
            refine zr_goto hO (tgt := 31) dX3_laysOpened_71 rfl ?_
            refine zV.loc [1, 2, 0] rfl ?_
            exact ih31 _ (by omega) ρ (k + 1) rfl (by omega) (by omega) (fun k a => by first | rfl | exact hA k a | (simp only [zuA]; rw [zset_n a]; first | rfl | exact hA k a)) (fun k => by first | rfl | exact hB k) (fun m a b => by rw [show (k + 1).toNat = k.toNat + 1 by omega, gopk_s]; rw [if_neg (fun q => by have q2 := q.1; have q3 := q.2.2; rw [hrk.1] at *; omega)]; exact hz m a b) h hf
          · skip
            have c45 := zB_ne c45
            refine zr_aload_n hO (hl := rfl) (j := 0) (hi := rfl) dX3_laysOpened_48 ?_
            refine zr_iload_n hO (hl := rfl) (j := 2) (hi := rfl) dX3_laysOpened_49 ?_
            refine zr_cVi hO zc_X3 zw_X3_215 (c_X3_isFolded hI hf ((hA 1 (by decide)).trans ((hs1.2 1 rfl).trans hg)) (hA 14 (by decide)) k (by omega) (by omega) ((by rw [hrk.1]; omega)) ((by rw [hrk.1]; omega))) dX3_laysOpened_50 (zrd_of hf.1) rfl (rest := []) rfl ⟨Nat.le_of_ble_eq_true rfl, Nat.le_of_ble_eq_true rfl⟩ (Nat.le_of_ble_eq_true rfl) (Nat.le_refl _) (Nat.le_refl _) (fun x h hx => ?_)
            obtain ⟨hx, hf⟩ := hx
            have hx : x = zB (gcl g ((τ1.2 14) k.toNat) = 1) := hx
            subst hx
            rw [show (zB (gcl g ((τ1.2 14) k.toNat) = 1)) = zB (gcl g (gF g k.toNat) = 1) from (by rw [hrk.1])]
            refine zr_if_eq hO (zR_B _) (tgt := 68) dX3_laysOpened_53 rfl (fun c53 => ?_) (fun c53 => ?_)
            · skip
              have c53 := zB_eq c53
              refine zr_iinc hO (L' := [(2, zi (k + 1)), (0, zp r), (1, zi n)]) (j := 2) dX3_laysOpened_68 rfl (Nat.le_of_ble_eq_true rfl) rfl ?_
              refine zr_goto hO (tgt := 31) dX3_laysOpened_71 rfl ?_
              refine zV.loc [1, 2, 0] rfl ?_
              exact ih31 _ (by omega) ρ (k + 1) rfl (by omega) (by omega) (fun k a => by first | rfl | exact hA k a | (simp only [zuA]; rw [zset_n a]; first | rfl | exact hA k a)) (fun k => by first | rfl | exact hB k) (fun m a b => by rw [show (k + 1).toNat = k.toNat + 1 by omega, gopk_s]; rw [if_neg (fun q => by have q2 := q.1; have q3 := q.2.2; rw [hrk.1] at *; omega)]; exact hz m a b) h hf
            · skip
              have c53 := zB_ne c53
              refine zr_aload_n hO (hl := rfl) (j := 0) (hi := rfl) dX3_laysOpened_56 ?_
              refine zs_arr hO hf 24 dX3_laysOpened_57 q2994 (Nat.le_of_ble_eq_true rfl) rfl ?_
              refine zr_aload_n hO (hl := rfl) (j := 0) (hi := rfl) dX3_laysOpened_60 ?_
              refine zs_arr hO hf 14 dX3_laysOpened_61 q2984 (Nat.le_of_ble_eq_true rfl) rfl ?_
              refine zr_iload_n hO (hl := rfl) (j := 2) (hi := rfl) dX3_laysOpened_64 ?_
              refine zs_ild hO hf 14 (f := τ1.2 14) (n := 960) (j := k.toNat) dX3_laysOpened_65 rfl rfl rfl (hA 14 (by decide)) (by omega) (by omega) rfl (fun ⟨r7a, r7b⟩ => ?_)
              rw [show ((τ1.2 14) k.toNat) = gF g k.toNat from hrk.1]
              refine zr_iconst hO dX3_laysOpened_66 ?_
              refine zs_zst hO hI hf 24 (f := ρ.2 24) (n := 82) (j := (gF g k.toNat).toNat) dX3_laysOpened_67 rfl rfl rfl rfl (by omega) (by omega) rfl (Or.inr rfl) (fun h hf => ?_)
              refine zr_iinc hO (L' := [(2, zi (k + 1)), (0, zp r), (1, zi n)]) (j := 2) dX3_laysOpened_68 rfl (Nat.le_of_ble_eq_true rfl) rfl ?_
              refine zr_goto hO (tgt := 31) dX3_laysOpened_71 rfl ?_
              refine zV.loc [1, 2, 0] rfl ?_
              exact ih31 _ (by omega) (zuA ρ 24 (zset (ρ.2 24) ((gF g k.toNat).toNat) 1)) (k + 1) rfl (by omega) (by omega) (fun k a => by first | rfl | exact hA k a | (simp only [zuA]; rw [zset_n a]; first | rfl | exact hA k a)) (fun k => by first | rfl | exact hB k) (fun m a b => by rw [show (k + 1).toNat = k.toNat + 1 by omega, gopk_s]; by_cases e : m = gF g k.toNat; (rw [if_pos (by omega), e]; exact zset_s); (rw [if_neg (by omega)]; show zset (ρ.2 24) (gF g k.toNat).toNat 1 m.toNat = _; rw [zset_n (by omega)]; exact hz m a b)) h hf
      refine zV.loc [1, 2, 0] rfl ?_
      exact hl31 _ ρ 0 rfl (by omega) (by omega) (fun k a => by first | rfl | exact hA k a | (simp only [zuA]; rw [zset_n a]; first | rfl | exact hA k a)) (fun k => by first | rfl | exact hB k) (fun m a b => (hz m a (by omega)).trans (gopk_0 g n m).symm) h hf
    · skip
      refine zr_aload_n hO (hl := rfl) (j := 0) (hi := rfl) dX3_laysOpened_16 ?_
      refine zs_arr hO hf 24 dX3_laysOpened_17 q2994 (Nat.le_of_ble_eq_true rfl) rfl ?_
      refine zr_iload_n hO (hl := rfl) (j := 2) (hi := rfl) dX3_laysOpened_20 ?_
      refine zr_iconst hO dX3_laysOpened_21 ?_
      refine zs_zst hO hI hf 24 (f := ρ.2 24) (n := 82) (j := x.toNat) dX3_laysOpened_22 rfl rfl rfl rfl (by omega) (by omega) rfl (Or.inl rfl) (fun h hf => ?_)
      refine zr_iinc hO (L' := [(2, zi (x + 1)), (0, zp r), (1, zi n)]) (j := 2) dX3_laysOpened_23 rfl (Nat.le_of_ble_eq_true rfl) rfl ?_
      refine zr_goto hO (tgt := 6) dX3_laysOpened_26 rfl ?_
      refine zV.loc [1, 2, 0] rfl ?_
      exact ih6 _ (by omega) (zuA ρ 24 (zset (ρ.2 24) x.toNat 0)) (x + 1) rfl (by omega) (by omega) (fun k a => by first | rfl | exact hA k a | (simp only [zuA]; rw [zset_n a]; first | rfl | exact hA k a)) (fun k => by first | rfl | exact hB k) (fun m a b => by show zset (ρ.2 24) x.toNat 0 m.toNat = 0; by_cases e : m = x; (rw [e, zset_s]); (rw [zset_n (by omega)]; exact hz m a (by omega))) h hf
  refine zV.loc [1, 2, 0] rfl ?_
  exact hl6 _ τ1 0 rfl (by omega) (by omega) (fun k a => by first | rfl | exact hA k a | (simp only [zuA]; rw [zset_n a]; first | rfl | exact hA k a)) (fun k => by first | rfl | exact hB k) (fun m a b => by omega) h hf
theorem zw_X3_263 : zYw RX3 RX3 263 yX3_laysOpened cX3_laysOpened 4 (some Jvm.ClassFile.FieldType.int) 1 := ⟨q3380, q3382, qs83, q116, q3383, rfl, ⟨by decide +kernel, by decide +kernel, by decide +kernel⟩⟩
theorem c_X3_opensFor {G : zG} {r : Nat} {ad : Nat → Nat} {h0 : zHp} (hI : zRI r ad) {σ : zS} {h : zHp} (hf : zRf r ad σ h0 h) {g : Nat → Int} (hg : σ.2 1 = g) (n : Int) (hn : zR n) (hw : zwf g) : zC G yX3_opensFor cX3_opensFor 2 (some Jvm.ClassFile.FieldType.int) 8 180 0 0 [zp r, zi n] h (zPi (fun x h' => x = (if 1 ≤ n ∧ n ≤ g 0 then gopm g n else 0) ∧ ∃ τ : zS, τ.1 0 = (1 - zB (1 ≤ n ∧ n ≤ g 0)) ∧ zCo σ τ ∧ zRf r ad τ h0 h') zNo) := by
  refine zC.of zpn_X3 (Nat.le_of_ble_eq_true rfl) (L := [(0, zp r), (1, zi n)]) rfl (fun K hO => ?_)
  obtain ⟨w1, w2, w3⟩ := id hw
  obtain ⟨hna, hnb⟩ := hn
  refine zr_aload_n hO (hl := rfl) (j := 0) (hi := rfl) dX3_opensFor_0 ?_
  refine zr_aload_n hO (hl := rfl) (j := 0) (hi := rfl) dX3_opensFor_1 ?_
  refine zr_iload_n hO (hl := rfl) (j := 1) (hi := rfl) dX3_opensFor_2 ?_
  refine zr_cVi hO zc_X3 zw_X3_167 (c_X3_isLine hI hf hg n (⟨by omega, by omega⟩)) dX3_opensFor_3 (zrd_of hf.1) rfl (rest := [zp r]) rfl ⟨Nat.le_of_ble_eq_true rfl, Nat.le_of_ble_eq_true rfl⟩ (Nat.le_of_ble_eq_true rfl) (Nat.le_refl _) (Nat.le_refl _) (fun x h hx => ?_)
  obtain ⟨hx, hf⟩ := hx
  have hx : x = zB (1 ≤ n ∧ n ≤ g 0) := hx
  subst hx
  refine zr_cVi hO zc_X3 zw_X3_111 (c_X3_may hI hf (zB (1 ≤ n ∧ n ≤ g 0)) (zB_01 _)) dX3_opensFor_6 (zrd_of hf.1) rfl (rest := []) rfl ⟨Nat.le_of_ble_eq_true rfl, Nat.le_of_ble_eq_true rfl⟩ (Nat.le_of_ble_eq_true rfl) (Nat.le_refl _) (Nat.le_refl _) (fun x h hx => ?_)
  obtain ⟨hx, hf⟩ := hx
  have hx : x = (zB (1 ≤ n ∧ n ≤ g 0)) := hx
  subst hx
  have hf : zRf r ad (zuS σ 0 (1 - (zB (1 ≤ n ∧ n ≤ g 0)))) h0 h := hf
  refine zr_if_eq hO (zR_B _) (tgt := 20) dX3_opensFor_9 rfl (fun c9 => ?_) (fun c9 => ?_)
  · skip
    have c9 := zB_eq c9
    refine zr_iconst hO dX3_opensFor_20 ?_
    exact zr_ireturn hO dX3_opensFor_21 ⟨(by rw [if_neg c9]), (zuS σ 0 (1 - (zB (1 ≤ n ∧ n ≤ g 0)))), (rfl), ((zCo.refl σ).uS (k := 0) (by decide) (1 - (zB (1 ≤ n ∧ n ≤ g 0)))), hf⟩
  · skip
    have c9 := zB_ne c9
    refine zr_aload_n hO (hl := rfl) (j := 0) (hi := rfl) dX3_opensFor_12 ?_
    refine zr_iload_n hO (hl := rfl) (j := 1) (hi := rfl) dX3_opensFor_13 ?_
    refine zr_cVi hO zc_X3 zw_X3_263 (c_X3_laysOpened hI hf hg n (⟨by omega, by omega⟩) (hw)) dX3_opensFor_14 (zrd_of hf.1) rfl (rest := []) rfl ⟨Nat.le_of_ble_eq_true rfl, Nat.le_of_ble_eq_true rfl⟩ (Nat.le_of_ble_eq_true rfl) (Nat.le_refl _) (Nat.le_refl _) (fun x h hx => ?_)
    obtain ⟨hxv, τ1, hs1, ho1, hf⟩ := hx
    have hxv : x = gopm g n := hxv
    rw [hxv]
    refine zr_goto hO (tgt := 21) dX3_opensFor_17 rfl ?_
    exact zr_ireturn hO dX3_opensFor_21 ⟨(by rw [if_pos c9]), τ1, (((hs1.1 0 (by decide) (by decide)).trans rfl)), (((zCo.refl σ).uS (k := 0) (by decide) (1 - (zB (1 ≤ n ∧ n ≤ g 0)))).tr hs1), hf⟩
theorem c_X3_shownIf {G : zG} {r : Nat} {ad : Nat → Nat} {h0 : zHp} (hI : zRI r ad) {σ : zS} {h : zHp} (hf : zRf r ad σ h0 h) {g : Nat → Int} (hg : σ.2 1 = g) (n : Int) (f : Int) (hn : zR n) (hf1 : f = 0 ∨ f = 1) (hw : zwf g) : zC G yX3_shownIf cX3_shownIf 3 (some Jvm.ClassFile.FieldType.int) 6 137 0 0 [zp r, zi n, zi f] h (zPi (fun x h' => x = (if 1 ≤ n ∧ n ≤ g 0 then grow g (gc2 g n f) (g 0) else 0) ∧ ∃ τ : zS, τ.1 0 = (1 - zB (1 ≤ n ∧ n ≤ g 0)) ∧ zCo σ τ ∧ zRf r ad τ h0 h') zNo) := by
  refine zC.of zpn_X3 (Nat.le_of_ble_eq_true rfl) (L := [(0, zp r), (1, zi n), (2, zi f)]) rfl (fun K hO => ?_)
  obtain ⟨w1, w2, w3⟩ := id hw
  obtain ⟨hna, hnb⟩ := hn
  refine zr_aload_n hO (hl := rfl) (j := 0) (hi := rfl) dX3_shownIf_0 ?_
  refine zr_aload_n hO (hl := rfl) (j := 0) (hi := rfl) dX3_shownIf_1 ?_
  refine zr_iload_n hO (hl := rfl) (j := 1) (hi := rfl) dX3_shownIf_2 ?_
  refine zr_cVi hO zc_X3 zw_X3_167 (c_X3_isLine hI hf hg n (⟨by omega, by omega⟩)) dX3_shownIf_3 (zrd_of hf.1) rfl (rest := [zp r]) rfl ⟨Nat.le_of_ble_eq_true rfl, Nat.le_of_ble_eq_true rfl⟩ (Nat.le_of_ble_eq_true rfl) (Nat.le_refl _) (Nat.le_refl _) (fun x h hx => ?_)
  obtain ⟨hx, hf⟩ := hx
  have hx : x = zB (1 ≤ n ∧ n ≤ g 0) := hx
  subst hx
  refine zr_cVi hO zc_X3 zw_X3_111 (c_X3_may hI hf (zB (1 ≤ n ∧ n ≤ g 0)) (zB_01 _)) dX3_shownIf_6 (zrd_of hf.1) rfl (rest := []) rfl ⟨Nat.le_of_ble_eq_true rfl, Nat.le_of_ble_eq_true rfl⟩ (Nat.le_of_ble_eq_true rfl) (Nat.le_refl _) (Nat.le_refl _) (fun x h hx => ?_)
  obtain ⟨hx, hf⟩ := hx
  have hx : x = (zB (1 ≤ n ∧ n ≤ g 0)) := hx
  subst hx
  have hf : zRf r ad (zuS σ 0 (1 - (zB (1 ≤ n ∧ n ≤ g 0)))) h0 h := hf
  refine zr_if_ne hO (zR_B _) (tgt := 14) dX3_shownIf_9 rfl (fun c9 => ?_) (fun c9 => ?_)
  · skip
    have c9 := zB_ne c9
    have hj25 : ∀ (d : Int) (hdf : f = d) (h : zHp) (hf : zRf r ad (zuS σ 0 (1 - (zB (1 ≤ n ∧ n ≤ g 0)))) h0 h), zV G K 0 0 h 25 [(0, zp r), (1, zi n), (2, zi f)] [zi d, zi n, zp r] := by
      intro d hdf h hf
      subst hdf
      refine zr_cVv hO zc_X3 zw_X3_164 (c_X3_lays hI hf hg n f (hw) (⟨by omega, by omega⟩) (⟨by omega, by omega⟩)) dX3_shownIf_25 (zrd_of hf.1) rfl (rest := []) rfl ⟨Nat.le_of_ble_eq_true rfl, Nat.le_of_ble_eq_true rfl⟩ (Nat.le_of_ble_eq_true rfl) (Nat.le_refl _) (Nat.le_refl _) (fun h hx => ?_)
      obtain ⟨τ1, hs1, hd1, hf⟩ := hx
      refine zr_aload_n hO (hl := rfl) (j := 0) (hi := rfl) dX3_shownIf_28 ?_
      refine zr_cVi hO zc_X3 zw_X3_195 (c_X3_shownMany hI hf ((hs1.2 1 rfl).trans hg) (rfl : τ1.2 21 = (τ1.2 21))  (by omega) (by omega)) dX3_shownIf_29 (zrd_of hf.1) rfl (rest := []) rfl ⟨Nat.le_of_ble_eq_true rfl, Nat.le_of_ble_eq_true rfl⟩ (Nat.le_of_ble_eq_true rfl) (Nat.le_refl _) (Nat.le_refl _) (fun x h hx => ?_)
      obtain ⟨hx, hf⟩ := hx
      have hx : x = gshn ((τ1.2 21)) (g 0) := hx
      subst hx
      exact zr_ireturn hO dX3_shownIf_32 ⟨(by rw [if_pos c9]; exact gshn_of hd1.2.2 (by omega)), τ1, (((hs1.1 0 (by decide) (by decide)).trans rfl)), (((zCo.refl σ).uS (k := 0) (by decide) (1 - (zB (1 ≤ n ∧ n ≤ g 0)))).tr hs1), hf⟩
    refine zr_aload_n hO (hl := rfl) (j := 0) (hi := rfl) dX3_shownIf_14 ?_
    refine zr_iload_n hO (hl := rfl) (j := 1) (hi := rfl) dX3_shownIf_15 ?_
    refine zr_iload_n hO (hl := rfl) (j := 2) (hi := rfl) dX3_shownIf_16 ?_
    refine zr_if_eq hO ⟨by omega, by omega⟩ (tgt := 24) dX3_shownIf_17 rfl (fun c17 => ?_) (fun c17 => ?_)
    · skip
      refine zr_iconst hO dX3_shownIf_24 ?_
      exact hj25 0 (by omega) h hf
    · skip
      refine zr_iconst hO dX3_shownIf_20 ?_
      refine zr_goto hO (tgt := 25) dX3_shownIf_21 rfl ?_
      exact hj25 1 (by omega) h hf
  · skip
    have c9 := zB_eq c9
    refine zr_iconst hO dX3_shownIf_12 ?_
    exact zr_ireturn hO dX3_shownIf_13 ⟨(by rw [if_neg c9]), (zuS σ 0 (1 - (zB (1 ≤ n ∧ n ≤ g 0)))), (rfl), ((zCo.refl σ).uS (k := 0) (by decide) (1 - (zB (1 ≤ n ∧ n ≤ g 0)))), hf⟩
theorem c_X3_shows {G : zG} {r : Nat} {ad : Nat → Nat} {h0 : zHp} (hI : zRI r ad) {σ : zS} {h : zHp} (hf : zRf r ad σ h0 h) {g : Nat → Int} (hg : σ.2 1 = g) (n : Int) (hn : zR n) (hw : zwf g) : zC G yX3_shows cX3_shows 4 (some Jvm.ClassFile.FieldType.int) 8 180 0 0 [zp r, zi n] h (zPi (fun x h' => x = (gopm g n) ∧ ∃ τ : zS, zSm (zuA σ 1 (gsw g n)) τ ∧ zRf r ad τ h0 h') zNo) := by
  refine zC.of zpn_X3 (Nat.le_of_ble_eq_true rfl) (L := [(0, zp r), (1, zi n)]) rfl (fun K hO => ?_)
  obtain ⟨w1, w2, w3⟩ := id hw
  obtain ⟨hna, hnb⟩ := hn
  refine zr_aload_n hO (hl := rfl) (j := 0) (hi := rfl) dX3_shows_0 ?_
  refine zr_iload_n hO (hl := rfl) (j := 1) (hi := rfl) dX3_shows_1 ?_
  refine zr_cVi hO zc_X3 zw_X3_263 (c_X3_laysOpened hI hf hg n (⟨hna, hnb⟩) (hw)) dX3_shows_2 (zrd_of hf.1) rfl (rest := []) rfl ⟨Nat.le_of_ble_eq_true rfl, Nat.le_of_ble_eq_true rfl⟩ (Nat.le_of_ble_eq_true rfl) (Nat.le_refl _) (Nat.le_refl _) (fun x h hx => ?_)
  obtain ⟨hxv, τ1, hs1, ho1, hf⟩ := hx
  have hxv : x = gopm g n := hxv
  rw [hxv]
  refine zr_istore_n hO (L' := [(2, zi (gopm g n)), (0, zp r), (1, zi n)]) (hi := rfl) dX3_shows_5 (Nat.le_of_ble_eq_true rfl) rfl ?_
  refine zr_iconst hO dX3_shows_6 ?_
  refine zr_istore_n hO (L' := [(3, zi 1), (2, zi (gopm g n)), (0, zp r), (1, zi n)]) (hi := rfl) dX3_shows_7 (Nat.le_of_ble_eq_true rfl) rfl ?_
  have hl8 : ∀ (n9 : Nat) (ρ : zS) (m : Int), (g 0 + 1 - m).toNat = n9 → ∀ (i1 : 1 ≤ m) (i2 : m ≤ g 0 + 1) (hA : ∀ k, k ≠ 1 → ρ.2 k = τ1.2 k) (hB : ∀ k, ρ.1 k = τ1.1 k) (hC : ρ.2 1 = gsc g (fun x => gswp g n x && decide (x < m)) 0) (h : zHp) (hf : zRf r ad ρ h0 h), zV G K 0 0 h 8 [(0, zp r), (1, zi n), (2, zi (gopm g n)), (3, zi m)] [] := by
    intro n9
    induction n9 using Nat.strongRecOn with
    | _ n9 ih8 =>
    intro ρ m hn8 i1 i2 hA hB hC h hf
    refine zr_iload_n hO (hl := rfl) (j := 3) (hi := rfl) dX3_shows_8 ?_
    refine zr_aload_n hO (hl := rfl) (j := 0) (hi := rfl) dX3_shows_9 ?_
    refine zs_arr hO hf 1 dX3_shows_10 q2971 (Nat.le_of_ble_eq_true rfl) rfl ?_
    refine zr_iconst hO dX3_shows_13 ?_
    refine zs_ild hO hf 1 (f := gsc g (fun x => gswp g n x && decide (x < m)) 0) (n := 2195) (j := 0) dX3_shows_14 rfl rfl rfl hC (by omega) (by omega) rfl (fun ⟨r1a, r1b⟩ => ?_)
    rw [show ((gsc g (fun x => gswp g n x && decide (x < m)) 0) 0) = g 0 from gsc_lo (by omega)]
    refine zr_icmp_gt hO ⟨by omega, by omega⟩ ⟨by omega, by omega⟩ (tgt := 45) dX3_shows_15 rfl (fun c15 => ?_) (fun c15 => ?_)
    · skip
      refine zr_iload_n hO (hl := rfl) (j := 2) (hi := rfl) dX3_shows_45 ?_
      exact zr_ireturn hO dX3_shows_46 ⟨rfl, ρ, (show zSm (zuA σ 1 (gsw g n)) ρ from hs1.on1 hA hB (hC.trans (gsc_skip (fun x a b => by by_cases e : x < m; (rw [decide_eq_true e, Bool.and_true]); (rw [show gswp g n x = false from decide_eq_false (fun q => by omega)]; rfl))))), hf⟩
    · skip
      refine zr_aload_n hO (hl := rfl) (j := 0) (hi := rfl) dX3_shows_18 ?_
      refine zs_arr hO hf 24 dX3_shows_19 q2994 (Nat.le_of_ble_eq_true rfl) rfl ?_
      refine zr_iload_n hO (hl := rfl) (j := 3) (hi := rfl) dX3_shows_22 ?_
      refine zs_zld hO hf 24 (f := τ1.2 24) (n := 82) (j := m.toNat) dX3_shows_23 rfl rfl rfl (hA 24 (by decide)) (by omega) (by omega) rfl (fun r2 => ?_)
      have hom := ho1 m (by omega) (by omega)
      refine zr_if_eq hO ⟨by omega, by omega⟩ (tgt := 39) dX3_shows_24 rfl (fun c24 => ?_) (fun c24 => ?_)
      · skip
        refine zr_iinc hO (L' := [(3, zi (m + 1)), (0, zp r), (1, zi n), (2, zi (gopm g n))]) (j := 3) dX3_shows_39 rfl (Nat.le_of_ble_eq_true rfl) rfl ?_
        refine zr_goto hO (tgt := 8) dX3_shows_42 rfl ?_
        refine zV.loc [1, 2, 3, 0] rfl ?_
        exact ih8 _ (by omega) ρ (m + 1) rfl (by omega) (by omega) (fun k a => by first | rfl | exact hA k a | (simp only [zuA]; rw [zset_n a]; first | rfl | exact hA k a)) (fun k => by first | rfl | exact hB k) (by rw [hC]; exact gsc_skip (fun x a b => by by_cases e : x = m; (rw [e, show gswp g n m = false from decide_eq_false (fun q => by omega)]; rfl); (congr 1; exact decide_eq_decide.mpr (by omega)))) h hf
      · skip
        refine zr_aload_n hO (hl := rfl) (j := 0) (hi := rfl) dX3_shows_27 ?_
        refine zs_arr hO hf 1 dX3_shows_28 q2971 (Nat.le_of_ble_eq_true rfl) rfl ?_
        refine zr_iload_n hO (hl := rfl) (j := 3) (hi := rfl) dX3_shows_31 ?_
        refine zr_cSi hO zw_X3_125 (c_X3_lineAt m) dX3_shows_32 rfl (rest := [zp (ad 1)]) rfl ⟨Nat.le_of_ble_eq_true rfl, Nat.le_of_ble_eq_true rfl⟩ (Nat.le_of_ble_eq_true rfl) (Nat.le_refl _) (Nat.le_refl _) (fun x h hx => ?_)
        obtain ⟨hx, rfl⟩ := hx
        have hx : x = 35 + 27 * (m - 1) := hx
        subst hx
        refine zr_iconst hO dX3_shows_35 ?_
        refine zr_iadd hO dX3_shows_36 ?_
        refine zr_iconst hO dX3_shows_37 ?_
        refine zs_ist hO hI hf 1 (f := gsc g (fun x => gswp g n x && decide (x < m)) 0) (n := 2195) (j := (35 + 27 * (m - 1) + 1).toNat) dX3_shows_38 rfl rfl rfl hC (by omega) (by omega) rfl ⟨by omega, by omega⟩ (fun h hf => ?_)
        refine zr_iinc hO (L' := [(3, zi (m + 1)), (0, zp r), (1, zi n), (2, zi (gopm g n))]) (j := 3) dX3_shows_39 rfl (Nat.le_of_ble_eq_true rfl) rfl ?_
        refine zr_goto hO (tgt := 8) dX3_shows_42 rfl ?_
        refine zV.loc [1, 2, 3, 0] rfl ?_
        exact ih8 _ (by omega) (zuA ρ 1 (zset (gsc g (fun x => gswp g n x && decide (x < m)) 0) ((35 + 27 * (m - 1) + 1).toNat) 0)) (m + 1) rfl (by omega) (by omega) (fun k a => by first | rfl | exact hA k a | (simp only [zuA]; rw [zset_n a]; first | rfl | exact hA k a)) (fun k => by first | rfl | exact hB k) (by show zset ρ.2 1 _ 1 = _; rw [zset_s]; exact gsc_s (by omega) (by omega) (fun x a b => by by_cases e : x = m; (rw [e, show gswp g n m = true from decide_eq_true ⟨by omega, by omega, by omega⟩, decide_eq_true (show m < m + 1 by omega), decide_eq_true (show m = m from rfl), Bool.or_true, Bool.and_true]); (rw [decide_eq_false e, Bool.or_false]; congr 1; exact decide_eq_decide.mpr (by omega)))) h hf
  refine zV.loc [2, 3, 1, 0] rfl ?_
  exact hl8 _ τ1 1 rfl (by omega) (by omega) (fun k a => by first | rfl | exact hA k a | (simp only [zuA]; rw [zset_n a]; first | rfl | exact hA k a)) (fun k => by first | rfl | exact hB k) (((hs1.2 1 rfl).trans hg).trans (gsc_none (fun x a b => by rw [decide_eq_false (by omega), Bool.and_false])).symm) h hf
theorem c_X3_steps {G : zG} {r : Nat} {ad : Nat → Nat} {h0 : zHp} (hI : zRI r ad) {σ : zS} {h : zHp} (hf : zRf r ad σ h0 h) {g : Nat → Int} (hg : σ.2 1 = g) (n : Int) (m : Int) (hn : zR n) (hm : zR m) (hw : zwf g) : zC G yX3_steps cX3_steps 5 (some Jvm.ClassFile.FieldType.int) 7 157 0 0 [zp r, zi n, zi m] h (zPi (fun x h' => x = (if (1 ≤ n ∧ n ≤ g 0) ∧ (1 ≤ m ∧ m ≤ g 0) then gst g m (g 0 + 1).toNat n 0 else 0) ∧ ∃ τ : zS, τ.1 0 = (1 - zB ((1 ≤ n ∧ n ≤ g 0) ∧ (1 ≤ m ∧ m ≤ g 0))) ∧ zCo σ τ ∧ zRf r ad τ h0 h') zNo) := by
  refine zC.of zpn_X3 (Nat.le_of_ble_eq_true rfl) (L := [(0, zp r), (1, zi n), (2, zi m)]) rfl (fun K hO => ?_)
  obtain ⟨w1, w2, w3⟩ := id hw
  obtain ⟨hna, hnb⟩ := hn
  obtain ⟨hma, hmb⟩ := hm
  have hj22 : ∀ (b : Int) (hb : b = zB ((1 ≤ n ∧ n ≤ g 0) ∧ (1 ≤ m ∧ m ≤ g 0))) (h : zHp) (hf : zRf r ad σ h0 h), zV G K 0 0 h 22 [(0, zp r), (1, zi n), (2, zi m)] [zi b, zp r] := by
    intro b hb h hf
    subst hb
    refine zr_cVi hO zc_X3 zw_X3_111 (c_X3_may hI hf (zB ((1 ≤ n ∧ n ≤ g 0) ∧ (1 ≤ m ∧ m ≤ g 0))) (zB_01 _)) dX3_steps_22 (zrd_of hf.1) rfl (rest := []) rfl ⟨Nat.le_of_ble_eq_true rfl, Nat.le_of_ble_eq_true rfl⟩ (Nat.le_of_ble_eq_true rfl) (Nat.le_refl _) (Nat.le_refl _) (fun x h hx => ?_)
    obtain ⟨hx, hf⟩ := hx
    have hx : x = (zB ((1 ≤ n ∧ n ≤ g 0) ∧ (1 ≤ m ∧ m ≤ g 0))) := hx
    subst hx
    have hf : zRf r ad (zuS σ 0 (1 - (zB ((1 ≤ n ∧ n ≤ g 0) ∧ (1 ≤ m ∧ m ≤ g 0))))) h0 h := hf
    refine zr_if_ne hO (zR_B _) (tgt := 30) dX3_steps_25 rfl (fun c25 => ?_) (fun c25 => ?_)
    · skip
      have c25 := zB_ne c25
      refine zr_iload_n hO (hl := rfl) (j := 1) (hi := rfl) dX3_steps_30 ?_
      refine zr_istore_n hO (L' := [(3, zi n), (0, zp r), (1, zi n), (2, zi m)]) (hi := rfl) dX3_steps_31 (Nat.le_of_ble_eq_true rfl) rfl ?_
      refine zr_iconst hO dX3_steps_32 ?_
      refine zr_istore hO (L' := [(4, zi 0), (3, zi n), (0, zp r), (1, zi n), (2, zi m)]) dX3_steps_33 (Nat.le_of_ble_eq_true rfl) rfl ?_
      have hl35 : ∀ (n9 : Nat) (a i : Int), (g 0 + 1 - i).toNat = n9 → ∀ (i1 : 0 ≤ i) (i2 : i ≤ g 0 + 1) (i3 : gst g m (g 0 + 1).toNat n 0 = gst g m (g 0 + 1 - i).toNat a i) (i4 : 1 ≤ a ∧ a ≤ g 0) (h : zHp) (hf : zRf r ad (zuS σ 0 (1 - (zB ((1 ≤ n ∧ n ≤ g 0) ∧ (1 ≤ m ∧ m ≤ g 0))))) h0 h), zV G K 0 0 h 35 [(0, zp r), (1, zi n), (2, zi m), (3, zi a), (4, zi i)] [] := by
        intro n9
        induction n9 using Nat.strongRecOn with
        | _ n9 ih35 =>
        intro a i hn35 i1 i2 i3 i4 h hf
        refine zr_iload hO (hl := rfl) (j := 4) dX3_steps_35 ?_
        refine zr_aload_n hO (hl := rfl) (j := 0) (hi := rfl) dX3_steps_37 ?_
        refine zs_arr hO hf 1 dX3_steps_38 q2971 (Nat.le_of_ble_eq_true rfl) rfl ?_
        refine zr_iconst hO dX3_steps_41 ?_
        refine zs_ild hO hf 1 (f := g) (n := 2195) (j := 0) dX3_steps_42 rfl rfl rfl hg (by omega) (by omega) rfl (fun ⟨r2a, r2b⟩ => ?_)
        refine zr_icmp_gt hO ⟨by omega, by omega⟩ ⟨by omega, by omega⟩ (tgt := 72) dX3_steps_43 rfl (fun c43 => ?_) (fun c43 => ?_)
        · skip
          refine zr_iconst hO dX3_steps_72 ?_
          exact zr_ireturn hO dX3_steps_73 ⟨(by rw [if_pos c25, i3, show (g 0 + 1 - i).toNat = 0 by omega, gst]), (zuS σ 0 (1 - (zB ((1 ≤ n ∧ n ≤ g 0) ∧ (1 ≤ m ∧ m ≤ g 0))))), (rfl), ((zCo.refl σ).uS (k := 0) (by decide) (1 - (zB ((1 ≤ n ∧ n ≤ g 0) ∧ (1 ≤ m ∧ m ≤ g 0))))), hf⟩
        · skip
          refine zr_iload_n hO (hl := rfl) (j := 3) (hi := rfl) dX3_steps_46 ?_
          refine zr_iload_n hO (hl := rfl) (j := 2) (hi := rfl) dX3_steps_47 ?_
          refine zr_icmp_ne hO ⟨by omega, by omega⟩ ⟨by omega, by omega⟩ (tgt := 54) dX3_steps_48 rfl (fun c48 => ?_) (fun c48 => ?_)
          · skip
            have gta := gtg_in (g := g) a
            refine zr_aload_n hO (hl := rfl) (j := 0) (hi := rfl) dX3_steps_54 ?_
            refine zr_iload_n hO (hl := rfl) (j := 3) (hi := rfl) dX3_steps_55 ?_
            refine zr_cVi hO zc_X3 zw_X3_257 (c_X3_targetOf hI hf hg a (by omega) (by omega) (hw)) dX3_steps_56 (zrd_of hf.1) rfl (rest := []) rfl ⟨Nat.le_of_ble_eq_true rfl, Nat.le_of_ble_eq_true rfl⟩ (Nat.le_of_ble_eq_true rfl) (Nat.le_refl _) (Nat.le_refl _) (fun x h hx => ?_)
            obtain ⟨hx, hf⟩ := hx
            have hx : x = gtg g a := hx
            subst hx
            refine zr_istore_n hO (L' := [(3, zi (gtg g a)), (0, zp r), (1, zi n), (2, zi m), (4, zi i)]) (hi := rfl) dX3_steps_59 (Nat.le_of_ble_eq_true rfl) rfl ?_
            refine zr_iload_n hO (hl := rfl) (j := 0) (hi := rfl) dX3_steps_60 ?_
            refine zr_if_gt hO ⟨by omega, by omega⟩ (tgt := 66) dX3_steps_61 rfl (fun c61 => ?_) (fun c61 => ?_)
            · skip
              refine zr_iinc hO (L' := [(4, zi (i + 1)), (3, zi (gtg g a)), (0, zp r), (1, zi n), (2, zi m)]) (j := 4) dX3_steps_66 rfl (Nat.le_of_ble_eq_true rfl) rfl ?_
              refine zr_goto hO (tgt := 35) dX3_steps_69 rfl ?_
              refine zV.loc [2, 3, 4, 1, 0] rfl ?_
              exact ih35 _ (by omega) (gtg g a) (i + 1) rfl (by omega) (by omega) (by rw [i3, show (g 0 + 1 - i).toNat = (g 0 + 1 - (i + 1)).toNat + 1 by omega, gst, if_neg c48, if_neg (by omega)]) (by omega) h hf
            · skip
              refine zr_iconst hO dX3_steps_64 ?_
              exact zr_ireturn hO dX3_steps_65 ⟨(by rw [if_pos c25, i3, show (g 0 + 1 - i).toNat = (g 0 - i).toNat + 1 by omega, gst, if_neg c48, if_pos (by omega)]), (zuS σ 0 (1 - (zB ((1 ≤ n ∧ n ≤ g 0) ∧ (1 ≤ m ∧ m ≤ g 0))))), (rfl), ((zCo.refl σ).uS (k := 0) (by decide) (1 - (zB ((1 ≤ n ∧ n ≤ g 0) ∧ (1 ≤ m ∧ m ≤ g 0))))), hf⟩
          · skip
            refine zr_iload hO (hl := rfl) (j := 4) dX3_steps_51 ?_
            exact zr_ireturn hO dX3_steps_53 ⟨(by rw [if_pos c25, i3, show (g 0 + 1 - i).toNat = (g 0 - i).toNat + 1 by omega, gst, if_pos c48]), (zuS σ 0 (1 - (zB ((1 ≤ n ∧ n ≤ g 0) ∧ (1 ≤ m ∧ m ≤ g 0))))), (rfl), ((zCo.refl σ).uS (k := 0) (by decide) (1 - (zB ((1 ≤ n ∧ n ≤ g 0) ∧ (1 ≤ m ∧ m ≤ g 0))))), hf⟩
      refine zV.loc [2, 3, 4, 1, 0] rfl ?_
      exact hl35 _ n 0 rfl (by omega) (by omega) (by rw [Int.sub_zero]) (by omega) h hf
    · skip
      have c25 := zB_eq c25
      refine zr_iconst hO dX3_steps_28 ?_
      exact zr_ireturn hO dX3_steps_29 ⟨(by rw [if_neg c25]), (zuS σ 0 (1 - (zB ((1 ≤ n ∧ n ≤ g 0) ∧ (1 ≤ m ∧ m ≤ g 0))))), (rfl), ((zCo.refl σ).uS (k := 0) (by decide) (1 - (zB ((1 ≤ n ∧ n ≤ g 0) ∧ (1 ≤ m ∧ m ≤ g 0))))), hf⟩
  refine zr_aload_n hO (hl := rfl) (j := 0) (hi := rfl) dX3_steps_0 ?_
  refine zr_aload_n hO (hl := rfl) (j := 0) (hi := rfl) dX3_steps_1 ?_
  refine zr_iload_n hO (hl := rfl) (j := 1) (hi := rfl) dX3_steps_2 ?_
  refine zr_cVi hO zc_X3 zw_X3_167 (c_X3_isLine hI hf hg n (⟨by omega, by omega⟩)) dX3_steps_3 (zrd_of hf.1) rfl (rest := [zp r]) rfl ⟨Nat.le_of_ble_eq_true rfl, Nat.le_of_ble_eq_true rfl⟩ (Nat.le_of_ble_eq_true rfl) (Nat.le_refl _) (Nat.le_refl _) (fun x h hx => ?_)
  obtain ⟨hx, hf⟩ := hx
  have hx : x = zB (1 ≤ n ∧ n ≤ g 0) := hx
  subst hx
  refine zr_if_eq hO (zR_B _) (tgt := 21) dX3_steps_6 rfl (fun c6 => ?_) (fun c6 => ?_)
  · skip
    have c6 := zB_eq c6
    refine zr_iconst hO dX3_steps_21 ?_
    exact hj22 0 ((zB_f (by omega)).symm) h hf
  · skip
    have c6 := zB_ne c6
    refine zr_aload_n hO (hl := rfl) (j := 0) (hi := rfl) dX3_steps_9 ?_
    refine zr_iload_n hO (hl := rfl) (j := 2) (hi := rfl) dX3_steps_10 ?_
    refine zr_cVi hO zc_X3 zw_X3_167 (c_X3_isLine hI hf hg m (⟨by omega, by omega⟩)) dX3_steps_11 (zrd_of hf.1) rfl (rest := [zp r]) rfl ⟨Nat.le_of_ble_eq_true rfl, Nat.le_of_ble_eq_true rfl⟩ (Nat.le_of_ble_eq_true rfl) (Nat.le_refl _) (Nat.le_refl _) (fun x h hx => ?_)
    obtain ⟨hx, hf⟩ := hx
    have hx : x = zB (1 ≤ m ∧ m ≤ g 0) := hx
    subst hx
    refine zr_if_eq hO (zR_B _) (tgt := 21) dX3_steps_14 rfl (fun c14 => ?_) (fun c14 => ?_)
    · skip
      have c14 := zB_eq c14
      refine zr_iconst hO dX3_steps_21 ?_
      exact hj22 0 ((zB_f (by omega)).symm) h hf
    · skip
      have c14 := zB_ne c14
      refine zr_iconst hO dX3_steps_17 ?_
      refine zr_goto hO (tgt := 22) dX3_steps_18 rfl ?_
      exact hj22 1 ((zB_t (by omega)).symm) h hf
theorem c_X3_bestClose {G : zG} {r : Nat} {ad : Nat → Nat} {h0 : zHp} (hI : zRI r ad) {σ : zS} {h : zHp} (hf : zRf r ad σ h0 h) {g : Nat → Int} (hg : σ.2 1 = g) (hw : zwf g) : zC G yX3_bestClose cX3_bestClose 4 (some Jvm.ClassFile.FieldType.int) 7 157 0 0 [zp r] h (zPi (fun x h' => x = ((gbc g (g 0).toNat).1) ∧ ∃ τ : zS, τ.1 0 = 0 ∧ zCo σ τ ∧ zRf r ad τ h0 h') zNo) := by
  refine zC.of zpn_X3 (Nat.le_of_ble_eq_true rfl) (L := [(0, zp r)]) rfl (fun K hO => ?_)
  obtain ⟨w1, w2, w3⟩ := id hw
  refine zr_aload_n hO (hl := rfl) (j := 0) (hi := rfl) dX3_bestClose_0 ?_
  refine zr_iconst hO dX3_bestClose_1 ?_
  refine zs_put hO hI hf 0 dX3_bestClose_2 q2970 (Nat.le_of_ble_eq_true rfl) rfl rfl rfl ⟨by omega, by omega⟩ (fun h hf => ?_)
  refine zr_aload_n hO (hl := rfl) (j := 0) (hi := rfl) dX3_bestClose_5 ?_
  refine zr_cVv hO zc_X3 zw_X3_174 (c_X3_layAll hI hf hg  (hw)) dX3_bestClose_6 (zrd_of hf.1) rfl (rest := []) rfl ⟨Nat.le_of_ble_eq_true rfl, Nat.le_of_ble_eq_true rfl⟩ (Nat.le_of_ble_eq_true rfl) (Nat.le_refl _) (Nat.le_refl _) (fun h hx => ?_)
  obtain ⟨τ1, hs1, hd1, hf⟩ := hx
  refine zr_iconst hO dX3_bestClose_9 ?_
  refine zr_istore_n hO (L' := [(1, zi 0), (0, zp r)]) (hi := rfl) dX3_bestClose_10 (Nat.le_of_ble_eq_true rfl) rfl ?_
  refine zr_aload_n hO (hl := rfl) (j := 1) (hi := rfl) dX3_bestClose_11 ?_
  refine zr_cVi hO zc_X3 zw_X3_195 (c_X3_shownMany hI hf ((hs1.2 1 rfl).trans hg) (rfl : τ1.2 21 = (τ1.2 21))  (by omega) (by omega)) dX3_bestClose_12 (zrd_of hf.1) rfl (rest := []) rfl ⟨Nat.le_of_ble_eq_true rfl, Nat.le_of_ble_eq_true rfl⟩ (Nat.le_of_ble_eq_true rfl) (Nat.le_refl _) (Nat.le_refl _) (fun x h hx => ?_)
  obtain ⟨hx, hf⟩ := hx
  have hx : x = gshn ((τ1.2 21)) (g 0) := hx
  subst hx
  have hgr := grow_in g (gcl g) (N := g 0) (by omega)
  rw [show (gshn ((τ1.2 21)) (g 0)) = grow g (gcl g) (g 0) from gshn_of hd1.2.2 (by omega)]
  refine zr_istore_n hO (L' := [(2, zi (grow g (gcl g) (g 0))), (1, zi 0), (0, zp r)]) (hi := rfl) dX3_bestClose_15 (Nat.le_of_ble_eq_true rfl) rfl ?_
  refine zr_iconst hO dX3_bestClose_16 ?_
  refine zr_istore_n hO (L' := [(3, zi 1), (2, zi (grow g (gcl g) (g 0))), (1, zi 0), (0, zp r)]) (hi := rfl) dX3_bestClose_17 (Nat.le_of_ble_eq_true rfl) rfl ?_
  have hl18 : ∀ (n9 : Nat) (ρ : zS) (b c n : Int), (g 0 + 1 - n).toNat = n9 → ∀ (i1 : 1 ≤ n) (i2 : n ≤ g 0 + 1) (i3 : gbc g (n - 1).toNat = (b, c)) (i4 : 0 ≤ c ∧ c ≤ g 0) (hS : zSm (zuS σ 0 0) ρ) (i5 : zR b) (h : zHp) (hf : zRf r ad ρ h0 h), zV G K 0 0 h 18 [(0, zp r), (1, zi b), (2, zi c), (3, zi n)] [] := by
    intro n9
    induction n9 using Nat.strongRecOn with
    | _ n9 ih18 =>
    intro ρ b c n hn18 i1 i2 i3 i4 hS i5 h hf
    refine zr_iload_n hO (hl := rfl) (j := 3) (hi := rfl) dX3_bestClose_18 ?_
    refine zr_aload_n hO (hl := rfl) (j := 0) (hi := rfl) dX3_bestClose_19 ?_
    refine zs_arr hO hf 1 dX3_bestClose_20 q2971 (Nat.le_of_ble_eq_true rfl) rfl ?_
    refine zr_iconst hO dX3_bestClose_23 ?_
    refine zs_ild hO hf 1 (f := g) (n := 2195) (j := 0) dX3_bestClose_24 rfl rfl rfl ((hS.2 1 rfl).trans hg) (by omega) (by omega) rfl (fun ⟨r2a, r2b⟩ => ?_)
    refine zr_icmp_gt hO ⟨by omega, by omega⟩ ⟨by omega, by omega⟩ (tgt := 58) dX3_bestClose_25 rfl (fun c25 => ?_) (fun c25 => ?_)
    · skip
      refine zr_iload_n hO (hl := rfl) (j := 1) (hi := rfl) dX3_bestClose_58 ?_
      exact zr_ireturn hO dX3_bestClose_59 ⟨(by rw [show g 0 = n - 1 by omega, i3]), ρ, ((hS.1 0 (by decide) (by decide))), (((zCo.refl σ).uS (by decide) 0).tr hS), hf⟩
    · skip
      refine zr_aload_n hO (hl := rfl) (j := 0) (hi := rfl) dX3_bestClose_28 ?_
      refine zr_iload_n hO (hl := rfl) (j := 3) (hi := rfl) dX3_bestClose_29 ?_
      refine zr_iconst hO dX3_bestClose_30 ?_
      refine zr_cVv hO zc_X3 zw_X3_164 (c_X3_lays hI hf ((hS.2 1 rfl).trans hg) n 1 (hw) (⟨by omega, by omega⟩) (⟨by omega, by omega⟩)) dX3_bestClose_31 (zrd_of hf.1) rfl (rest := []) rfl ⟨Nat.le_of_ble_eq_true rfl, Nat.le_of_ble_eq_true rfl⟩ (Nat.le_of_ble_eq_true rfl) (Nat.le_refl _) (Nat.le_refl _) (fun h hx => ?_)
      obtain ⟨τ2, hs2, hd2, hf⟩ := hx
      refine zr_aload_n hO (hl := rfl) (j := 0) (hi := rfl) dX3_bestClose_34 ?_
      refine zr_cVi hO zc_X3 zw_X3_195 (c_X3_shownMany hI hf ((hs2.2 1 rfl).trans ((hS.2 1 rfl).trans hg)) (rfl : τ2.2 21 = (τ2.2 21))  (by omega) (by omega)) dX3_bestClose_35 (zrd_of hf.1) rfl (rest := []) rfl ⟨Nat.le_of_ble_eq_true rfl, Nat.le_of_ble_eq_true rfl⟩ (Nat.le_of_ble_eq_true rfl) (Nat.le_refl _) (Nat.le_refl _) (fun x h hx => ?_)
      obtain ⟨hx, hf⟩ := hx
      have hx : x = gshn ((τ2.2 21)) (g 0) := hx
      subst hx
      have hgs := gshn_of hd2.2.2 (N := g 0) (by omega)
      have hgr2 := grow_in g (gc2 g n 1) (N := g 0) (by omega)
      refine zr_iload_n hO (hl := rfl) (j := 2) (hi := rfl) dX3_bestClose_38 ?_
      refine zr_icmp_lt hO ⟨by omega, by omega⟩ ⟨by omega, by omega⟩ (tgt := 45) dX3_bestClose_39 rfl (fun c39 => ?_) (fun c39 => ?_)
      · skip
        refine zr_iload_n hO (hl := rfl) (j := 3) (hi := rfl) dX3_bestClose_45 ?_
        refine zr_istore_n hO (L' := [(1, zi n), (0, zp r), (2, zi c), (3, zi n)]) (hi := rfl) dX3_bestClose_46 (Nat.le_of_ble_eq_true rfl) rfl ?_
        refine zr_aload_n hO (hl := rfl) (j := 1) (hi := rfl) dX3_bestClose_47 ?_
        refine zr_cVi hO zc_X3 zw_X3_195 (c_X3_shownMany hI hf ((hs2.2 1 rfl).trans ((hS.2 1 rfl).trans hg)) (rfl : τ2.2 21 = (τ2.2 21))  (by omega) (by omega)) dX3_bestClose_48 (zrd_of hf.1) rfl (rest := []) rfl ⟨Nat.le_of_ble_eq_true rfl, Nat.le_of_ble_eq_true rfl⟩ (Nat.le_of_ble_eq_true rfl) (Nat.le_refl _) (Nat.le_refl _) (fun x h hx => ?_)
        obtain ⟨hx, hf⟩ := hx
        have hx : x = gshn ((τ2.2 21)) (g 0) := hx
        subst hx
        refine zr_istore_n hO (L' := [(2, zi (gshn ((τ2.2 21)) (g 0))), (1, zi n), (0, zp r), (3, zi n)]) (hi := rfl) dX3_bestClose_51 (Nat.le_of_ble_eq_true rfl) rfl ?_
        refine zr_iinc hO (L' := [(3, zi (n + 1)), (2, zi (gshn ((τ2.2 21)) (g 0))), (1, zi n), (0, zp r)]) (j := 3) dX3_bestClose_52 rfl (Nat.le_of_ble_eq_true rfl) rfl ?_
        refine zr_goto hO (tgt := 18) dX3_bestClose_55 rfl ?_
        refine zV.loc [3, 2, 1, 0] rfl ?_
        exact ih18 _ (by omega) τ2 n (gshn ((τ2.2 21)) (g 0)) (n + 1) rfl (by omega) (by omega) (by rw [show n + 1 - 1 = n by omega, gbc_p g i1, i3]; unfold gbcF; rw [show gshn (τ2.2 21) (g 0) = grow g (gc2 g n 1) (g 0) from hgs]; exact if_pos (by show _ < c; omega)) (by omega) ((hS.trans hs2)) (⟨by omega, by omega⟩) h hf
      · skip
        refine zr_goto hO (tgt := 52) dX3_bestClose_42 rfl ?_
        refine zr_iinc hO (L' := [(3, zi (n + 1)), (0, zp r), (1, zi b), (2, zi c)]) (j := 3) dX3_bestClose_52 rfl (Nat.le_of_ble_eq_true rfl) rfl ?_
        refine zr_goto hO (tgt := 18) dX3_bestClose_55 rfl ?_
        refine zV.loc [1, 2, 3, 0] rfl ?_
        exact ih18 _ (by omega) τ2 b c (n + 1) rfl (by omega) (by omega) (by rw [show n + 1 - 1 = n by omega, gbc_p g i1, i3]; unfold gbcF; exact if_neg (by show ¬ _ < c; omega)) (by omega) ((hS.trans hs2)) (i5) h hf
  refine zV.loc [3, 2, 1, 0] rfl ?_
  exact hl18 _ τ1 0 (grow g (gcl g) (g 0)) 1 rfl (by omega) (by omega) (rfl) (by omega) ((((zSm.refl σ).cS 0 0).trans hs1)) (⟨by omega, by omega⟩) h hf
theorem zw_X3_115 : zYs RX3 115 yX3_copies cX3_copies 5 none 4 := ⟨q3090, q3091, q116, q3092, ⟨by decide +kernel, by decide +kernel, by decide +kernel⟩⟩
theorem zw_X3_266 : zYw RX3 RX3 266 yX3_shows cX3_shows 4 (some Jvm.ClassFile.FieldType.int) 1 := ⟨q3388, q3390, qs84, q116, q3391, rfl, ⟨by decide +kernel, by decide +kernel, by decide +kernel⟩⟩
theorem c_X3_rowIf {G : zG} {r : Nat} {ad : Nat → Nat} {h0 : zHp} (hI : zRI r ad) {σ : zS} {h : zHp} (hf : zRf r ad σ h0 h) {g : Nat → Int} (hg : σ.2 1 = g) (n : Int) (hn : zR n) (hw : zwf g) : zC G yX3_rowIf cX3_rowIf 4 (some Jvm.ClassFile.FieldType.int) 9 203 0 0 [zp r, zi n] h (zPi (fun x h' => x = (if 1 ≤ n ∧ n ≤ g 0 then grow (gsw g n) (gcl (gsw g n)) n else 0) ∧ ∃ τ : zS, τ.1 0 = (1 - zB (1 ≤ n ∧ n ≤ g 0)) ∧ zCo σ τ ∧ zRf r ad τ h0 h') zNo) := by
  refine zC.of zpn_X3 (Nat.le_of_ble_eq_true rfl) (L := [(0, zp r), (1, zi n)]) rfl (fun K hO => ?_)
  obtain ⟨w1, w2, w3⟩ := id hw
  obtain ⟨hna, hnb⟩ := hn
  refine zr_aload_n hO (hl := rfl) (j := 0) (hi := rfl) dX3_rowIf_0 ?_
  refine zr_aload_n hO (hl := rfl) (j := 0) (hi := rfl) dX3_rowIf_1 ?_
  refine zr_iload_n hO (hl := rfl) (j := 1) (hi := rfl) dX3_rowIf_2 ?_
  refine zr_cVi hO zc_X3 zw_X3_167 (c_X3_isLine hI hf hg n (⟨by omega, by omega⟩)) dX3_rowIf_3 (zrd_of hf.1) rfl (rest := [zp r]) rfl ⟨Nat.le_of_ble_eq_true rfl, Nat.le_of_ble_eq_true rfl⟩ (Nat.le_of_ble_eq_true rfl) (Nat.le_refl _) (Nat.le_refl _) (fun x h hx => ?_)
  obtain ⟨hx, hf⟩ := hx
  have hx : x = zB (1 ≤ n ∧ n ≤ g 0) := hx
  subst hx
  refine zr_cVi hO zc_X3 zw_X3_111 (c_X3_may hI hf (zB (1 ≤ n ∧ n ≤ g 0)) (zB_01 _)) dX3_rowIf_6 (zrd_of hf.1) rfl (rest := []) rfl ⟨Nat.le_of_ble_eq_true rfl, Nat.le_of_ble_eq_true rfl⟩ (Nat.le_of_ble_eq_true rfl) (Nat.le_refl _) (Nat.le_refl _) (fun x h hx => ?_)
  obtain ⟨hx, hf⟩ := hx
  have hx : x = (zB (1 ≤ n ∧ n ≤ g 0)) := hx
  subst hx
  have hf : zRf r ad (zuS σ 0 (1 - (zB (1 ≤ n ∧ n ≤ g 0)))) h0 h := hf
  refine zr_if_ne hO (zR_B _) (tgt := 14) dX3_rowIf_9 rfl (fun c9 => ?_) (fun c9 => ?_)
  · skip
    have c9 := zB_ne c9
    refine zr_aload_n hO (hl := rfl) (j := 0) (hi := rfl) dX3_rowIf_14 ?_
    refine zs_arr hO hf 1 dX3_rowIf_15 q2971 (Nat.le_of_ble_eq_true rfl) rfl ?_
    refine zr_iconst hO dX3_rowIf_18 ?_
    refine zr_aload_n hO (hl := rfl) (j := 0) (hi := rfl) dX3_rowIf_19 ?_
    refine zs_arr hO hf 2 dX3_rowIf_20 q2972 (Nat.le_of_ble_eq_true rfl) rfl ?_
    refine zr_iconst hO dX3_rowIf_23 ?_
    refine zr_cSv hO zw_X3_115 (c_X3_copies hI hf 1 2 0 0 rfl rfl rfl rfl (by omega) (by have : zRN 1 = 2195 := rfl; omega) (by omega) (by have : zRN 2 = 2195 := rfl; omega) (by first | exact Or.inl (by decide) | omega) (by omega) (by omega)) dX3_rowIf_24 rfl (rest := []) rfl ⟨Nat.le_of_ble_eq_true rfl, Nat.le_of_ble_eq_true rfl⟩ (Nat.le_of_ble_eq_true rfl) (Nat.le_refl _) (Nat.le_refl _) (fun h hx => ?_)
    have hf : zRf r ad (zuA (zuS σ 0 (1 - (zB (1 ≤ n ∧ n ≤ g 0)))) 2 (gcp g 0 (σ.2 2) 0 2195)) h0 h := gcp_eq hg (zuS_2 σ 0 (1 - (zB (1 ≤ n ∧ n ≤ g 0))) 2) hx
    refine zr_aload_n hO (hl := rfl) (j := 0) (hi := rfl) dX3_rowIf_27 ?_
    refine zr_iload_n hO (hl := rfl) (j := 1) (hi := rfl) dX3_rowIf_28 ?_
    refine zr_cVi hO zc_X3 zw_X3_266 (c_X3_shows hI hf hg n (⟨hna, hnb⟩) (hw)) dX3_rowIf_29 (zrd_of hf.1) rfl (rest := []) rfl ⟨Nat.le_of_ble_eq_true rfl, Nat.le_of_ble_eq_true rfl⟩ (Nat.le_of_ble_eq_true rfl) (Nat.le_refl _) (Nat.le_refl _) (fun x h hx => ?_)
    obtain ⟨hxv, τ1, hs1, hf⟩ := hx
    have hxv : x = gopm g n := hxv
    rw [hxv]
    refine zr_istore_n hO (L' := [(2, zi (gopm g n)), (0, zp r), (1, zi n)]) (hi := rfl) dX3_rowIf_32 (Nat.le_of_ble_eq_true rfl) rfl ?_
    refine zr_aload_n hO (hl := rfl) (j := 1) (hi := rfl) dX3_rowIf_33 ?_
    refine zr_cVv hO zc_X3 zw_X3_174 (c_X3_layAll hI hf ((hs1.2 1 rfl).trans (zuA_at (zuA (zuS σ 0 (1 - (zB (1 ≤ n ∧ n ≤ g 0)))) 2 (gcp g 0 (σ.2 2) 0 2195)) 1 (gsw g n)))  ((zwf_sc hw _ _))) dX3_rowIf_34 (zrd_of hf.1) rfl (rest := []) rfl ⟨Nat.le_of_ble_eq_true rfl, Nat.le_of_ble_eq_true rfl⟩ (Nat.le_of_ble_eq_true rfl) (Nat.le_refl _) (Nat.le_refl _) (fun h hx => ?_)
    obtain ⟨τ2, hs2, hd2, hf⟩ := hx
    refine zr_aload_n hO (hl := rfl) (j := 1) (hi := rfl) dX3_rowIf_37 ?_
    refine zr_iload_n hO (hl := rfl) (j := 2) (hi := rfl) dX3_rowIf_38 ?_
    refine zr_cVi hO zc_X3 zw_X3_177 (c_X3_rowOf hI hf (rfl : τ2.2 21 = (τ2.2 21)) n (by omega) (by omega)) dX3_rowIf_39 (zrd_of hf.1) rfl (rest := []) rfl ⟨Nat.le_of_ble_eq_true rfl, Nat.le_of_ble_eq_true rfl⟩ (Nat.le_of_ble_eq_true rfl) (Nat.le_refl _) (Nat.le_refl _) (fun x h hx => ?_)
    obtain ⟨hx, hf⟩ := hx
    have hx : x = gshn ((τ2.2 21)) n := hx
    subst hx
    refine zr_istore_n hO (L' := [(3, zi (gshn ((τ2.2 21)) n)), (2, zi (gopm g n)), (0, zp r), (1, zi n)]) (hi := rfl) dX3_rowIf_42 (Nat.le_of_ble_eq_true rfl) rfl ?_
    refine zr_aload_n hO (hl := rfl) (j := 2) (hi := rfl) dX3_rowIf_43 ?_
    refine zs_arr hO hf 2 dX3_rowIf_44 q2972 (Nat.le_of_ble_eq_true rfl) rfl ?_
    refine zr_iconst hO dX3_rowIf_47 ?_
    refine zr_aload_n hO (hl := rfl) (j := 2) (hi := rfl) dX3_rowIf_48 ?_
    refine zs_arr hO hf 1 dX3_rowIf_49 q2971 (Nat.le_of_ble_eq_true rfl) rfl ?_
    refine zr_iconst hO dX3_rowIf_52 ?_
    refine zr_cSv hO zw_X3_115 (c_X3_copies hI hf 2 1 0 0 rfl rfl rfl rfl (by omega) (by have : zRN 2 = 2195 := rfl; omega) (by omega) (by have : zRN 1 = 2195 := rfl; omega) (by first | exact Or.inl (by decide) | omega) (by omega) (by omega)) dX3_rowIf_53 rfl (rest := []) rfl ⟨Nat.le_of_ble_eq_true rfl, Nat.le_of_ble_eq_true rfl⟩ (Nat.le_of_ble_eq_true rfl) (Nat.le_refl _) (Nat.le_refl _) (fun h hx => ?_)
    have hf : zRf r ad (zuA τ2 1 (gcp (gcp g 0 (σ.2 2) 0 2195) 0 (gsw g n) 0 2195)) h0 h := gcp_eq ((hs2.2 2 rfl).trans ((hs1.2 2 rfl).trans ((zuA_ne (zuA (zuS σ 0 (1 - (zB (1 ≤ n ∧ n ≤ g 0)))) 2 (gcp g 0 (σ.2 2) 0 2195)) 1 (gsw g n) (j := 2) (by decide)).trans (zuA_at (zuS σ 0 (1 - (zB (1 ≤ n ∧ n ≤ g 0)))) 2 (gcp g 0 (σ.2 2) 0 2195))))) ((hs2.2 1 rfl).trans ((hs1.2 1 rfl).trans (zuA_at (zuA (zuS σ 0 (1 - (zB (1 ≤ n ∧ n ≤ g 0)))) 2 (gcp g 0 (σ.2 2) 0 2195)) 1 (gsw g n)))) hx
    refine zr_iload_n hO (hl := rfl) (j := 0) (hi := rfl) dX3_rowIf_56 ?_
    exact zr_ireturn hO dX3_rowIf_57 ⟨(by rw [if_pos c9]; exact gshn_of hd2.2.2 (by rw [gsw_0]; omega)), (zuA τ2 1 (gcp (gcp g 0 (σ.2 2) 0 2195) 0 (gsw g n) 0 2195)), (((hs2.1 0 (by decide) (by decide)).trans ((hs1.1 0 (by decide) (by decide)).trans rfl))), (by have e : zCo (zuA (zuA σ 1 (gsw g n)) 1 (gcp (gcp g 0 (σ.2 2) 0 2195) 0 (gsw g n) 0 2195)) (zuA τ2 1 (gcp (gcp g 0 (σ.2 2) 0 2195) 0 (gsw g n) 0 2195)) := (((((((zCo.refl σ).uS (k := 0) (by decide) (1 - (zB (1 ≤ n ∧ n ≤ g 0)))).uA (k := 2) rfl (gcp g 0 (σ.2 2) 0 2195)).cA 1 (gsw g n)).tr hs1).tr hs2).cA 1 (gcp (gcp g 0 (σ.2 2) 0 2195) 0 (gsw g n) 0 2195)); have e9 : (zuA (zuA σ 1 (gsw g n)) 1 (gcp (gcp g 0 (σ.2 2) 0 2195) 0 (gsw g n) 0 2195)) = σ := (by rw [zuA_uA, gcp_back (fun j hj => gsw_hi g n j hj), zuA_id' 1 hg]); rw [e9] at e; exact e), hf⟩
  · skip
    have c9 := zB_eq c9
    refine zr_iconst hO dX3_rowIf_12 ?_
    exact zr_ireturn hO dX3_rowIf_13 ⟨(by rw [if_neg c9]), (zuS σ 0 (1 - (zB (1 ≤ n ∧ n ≤ g 0)))), (rfl), ((zCo.refl σ).uS (k := 0) (by decide) (1 - (zB (1 ≤ n ∧ n ≤ g 0)))), hf⟩
theorem c_X3_opensForMarked {G : zG} {r : Nat} {ad : Nat → Nat} {h0 : zHp} (hI : zRI r ad) {σ : zS} {h : zHp} (hf : zRf r ad σ h0 h) {g : Nat → Int} (hg : σ.2 1 = g) (hw : zwf g) : zC G yX3_opensForMarked cX3_opensForMarked 3 (some Jvm.ClassFile.FieldType.int) 9 203 0 0 [zp r] h (zPi (fun x h' => x = ((gom g (g 0).toNat).2) ∧ ∃ τ : zS, τ.1 0 = 0 ∧ zCo σ τ ∧ zRf r ad τ h0 h') zNo) := by
  refine zC.of zpn_X3 (Nat.le_of_ble_eq_true rfl) (L := [(0, zp r)]) rfl (fun K hO => ?_)
  obtain ⟨w1, w2, w3⟩ := id hw
  refine zr_aload_n hO (hl := rfl) (j := 0) (hi := rfl) dX3_opensForMarked_0 ?_
  refine zr_iconst hO dX3_opensForMarked_1 ?_
  refine zs_put hO hI hf 0 dX3_opensForMarked_2 q2970 (Nat.le_of_ble_eq_true rfl) rfl rfl rfl ⟨by omega, by omega⟩ (fun h hf => ?_)
  refine zr_aload_n hO (hl := rfl) (j := 0) (hi := rfl) dX3_opensForMarked_5 ?_
  refine zs_arr hO hf 1 dX3_opensForMarked_6 q2971 (Nat.le_of_ble_eq_true rfl) rfl ?_
  refine zr_iconst hO dX3_opensForMarked_9 ?_
  refine zr_aload_n hO (hl := rfl) (j := 0) (hi := rfl) dX3_opensForMarked_10 ?_
  refine zs_arr hO hf 2 dX3_opensForMarked_11 q2972 (Nat.le_of_ble_eq_true rfl) rfl ?_
  refine zr_iconst hO dX3_opensForMarked_14 ?_
  refine zr_cSv hO zw_X3_115 (c_X3_copies hI hf 1 2 0 0 rfl rfl rfl rfl (by omega) (by have : zRN 1 = 2195 := rfl; omega) (by omega) (by have : zRN 2 = 2195 := rfl; omega) (by first | exact Or.inl (by decide) | omega) (by omega) (by omega)) dX3_opensForMarked_15 rfl (rest := []) rfl ⟨Nat.le_of_ble_eq_true rfl, Nat.le_of_ble_eq_true rfl⟩ (Nat.le_of_ble_eq_true rfl) (Nat.le_refl _) (Nat.le_refl _) (fun h hx => ?_)
  have hf : zRf r ad (zuA (zuS σ 0 0) 2 (gcp g 0 (σ.2 2) 0 2195)) h0 h := gcp_eq hg (zuS_2 σ 0 0 2) hx
  refine zr_iconst hO dX3_opensForMarked_18 ?_
  refine zr_istore_n hO (L' := [(1, zi 0), (0, zp r)]) (hi := rfl) dX3_opensForMarked_19 (Nat.le_of_ble_eq_true rfl) rfl ?_
  refine zr_iconst hO dX3_opensForMarked_20 ?_
  refine zr_istore_n hO (L' := [(2, zi 1), (1, zi 0), (0, zp r)]) (hi := rfl) dX3_opensForMarked_21 (Nat.le_of_ble_eq_true rfl) rfl ?_
  have hl22 : ∀ (n9 : Nat) (ρ : zS) (q : Nat → Int) (a n : Int), (g 0 + 1 - n).toNat = n9 → ∀ (i1 : 1 ≤ n) (i2 : n ≤ g 0 + 1) (i3 : gom g (n - 1).toNat = (q, a)) (hS : zSm (zuA (zuA (zuS σ 0 0) 2 (gcp g 0 (σ.2 2) 0 2195)) 1 q) ρ) (h : zHp) (hf : zRf r ad ρ h0 h), zV G K 0 0 h 22 [(0, zp r), (1, zi a), (2, zi n)] [] := by
    intro n9
    induction n9 using Nat.strongRecOn with
    | _ n9 ih22 =>
    intro ρ q a n hn22 i1 i2 i3 hS h hf
    have hlk := gom_lk g (n - 1).toNat
    rw [i3] at hlk
    obtain ⟨hlk, hla, hlb⟩ := hlk
    have hlk : zlk g q := hlk
    have hwq := hlk.wf hw
    have hla : 0 ≤ a := hla
    have hlb : a ≤ ((n - 1).toNat : Int) * ((g 0).toNat : Int) := hlb
    have hlc : ((n - 1).toNat : Int) * ((g 0).toNat : Int) ≤ 80 * 80 := Int.mul_le_mul (by omega) (by omega) (by omega) (by omega)
    refine zr_iload_n hO (hl := rfl) (j := 2) (hi := rfl) dX3_opensForMarked_22 ?_
    refine zr_aload_n hO (hl := rfl) (j := 0) (hi := rfl) dX3_opensForMarked_23 ?_
    refine zs_arr hO hf 1 dX3_opensForMarked_24 q2971 (Nat.le_of_ble_eq_true rfl) rfl ?_
    refine zr_iconst hO dX3_opensForMarked_27 ?_
    refine zs_ild hO hf 1 (f := q) (n := 2195) (j := 0) dX3_opensForMarked_28 rfl rfl rfl ((hS.2 1 rfl).trans (zuA_at _ 1 _)) (by omega) (by omega) rfl (fun ⟨r1a, r1b⟩ => ?_)
    rw [show (q 0) = g 0 from hlk.1]
    refine zr_icmp_gt hO ⟨by omega, by omega⟩ ⟨by omega, by omega⟩ (tgt := 58) dX3_opensForMarked_29 rfl (fun c29 => ?_) (fun c29 => ?_)
    · skip
      refine zr_aload_n hO (hl := rfl) (j := 0) (hi := rfl) dX3_opensForMarked_58 ?_
      refine zs_arr hO hf 2 dX3_opensForMarked_59 q2972 (Nat.le_of_ble_eq_true rfl) rfl ?_
      refine zr_iconst hO dX3_opensForMarked_62 ?_
      refine zr_aload_n hO (hl := rfl) (j := 0) (hi := rfl) dX3_opensForMarked_63 ?_
      refine zs_arr hO hf 1 dX3_opensForMarked_64 q2971 (Nat.le_of_ble_eq_true rfl) rfl ?_
      refine zr_iconst hO dX3_opensForMarked_67 ?_
      refine zr_cSv hO zw_X3_115 (c_X3_copies hI hf 2 1 0 0 rfl rfl rfl rfl (by omega) (by have : zRN 2 = 2195 := rfl; omega) (by omega) (by have : zRN 1 = 2195 := rfl; omega) (by first | exact Or.inl (by decide) | omega) (by omega) (by omega)) dX3_opensForMarked_68 rfl (rest := []) rfl ⟨Nat.le_of_ble_eq_true rfl, Nat.le_of_ble_eq_true rfl⟩ (Nat.le_of_ble_eq_true rfl) (Nat.le_refl _) (Nat.le_refl _) (fun h hx => ?_)
      have hf : zRf r ad (zuA ρ 1 (gcp (gcp g 0 (σ.2 2) 0 2195) 0 q 0 2195)) h0 h := gcp_eq ((hS.2 2 rfl).trans ((zuA_ne _ 1 _ (by decide)).trans (zuA_at _ 2 _))) ((hS.2 1 rfl).trans (zuA_at _ 1 _)) hx
      refine zr_iload_n hO (hl := rfl) (j := 1) (hi := rfl) dX3_opensForMarked_71 ?_
      exact zr_ireturn hO dX3_opensForMarked_72 ⟨(by rw [show g 0 = n - 1 by omega, i3]), (zuA ρ 1 (gcp (gcp g 0 (σ.2 2) 0 2195) 0 q 0 2195)), ((hS.1 0 (by decide) (by decide))), (by have e : zCo (zuA (zuA σ 1 q) 1 (gcp (gcp g 0 (σ.2 2) 0 2195) 0 q 0 2195)) (zuA ρ 1 (gcp (gcp g 0 (σ.2 2) 0 2195) 0 q 0 2195)) := ((((((zCo.refl σ).uS (by decide) 0).uA (k := 2) (by decide) _).cA 1 q).tr hS).cA 1 (gcp (gcp g 0 (σ.2 2) 0 2195) 0 q 0 2195)); have e9 : (zuA (zuA σ 1 q) 1 (gcp (gcp g 0 (σ.2 2) 0 2195) 0 q 0 2195)) = σ := (by rw [zuA_uA, gcp_back (fun j hj => hlk.2.1 j hj), zuA_id' 1 hg]); rw [e9] at e; exact e), hf⟩
    · skip
      refine zr_iload_n hO (hl := rfl) (j := 1) (hi := rfl) dX3_opensForMarked_32 ?_
      refine zr_aload_n hO (hl := rfl) (j := 0) (hi := rfl) dX3_opensForMarked_33 ?_
      refine zr_iload_n hO (hl := rfl) (j := 2) (hi := rfl) dX3_opensForMarked_34 ?_
      refine zr_cVi hO zc_X3 zw_X3_183 (c_X3_markersOn hI hf ((hS.2 1 rfl).trans (zuA_at _ 1 _)) n (by omega) (by omega)) dX3_opensForMarked_35 (zrd_of hf.1) rfl (rest := [zi a]) rfl ⟨Nat.le_of_ble_eq_true rfl, Nat.le_of_ble_eq_true rfl⟩ (Nat.le_of_ble_eq_true rfl) (Nat.le_refl _) (Nat.le_refl _) (fun x h hx => ?_)
      obtain ⟨hx, hf⟩ := hx
      have hx : x = gmo q (gky q n) := hx
      subst hx
      obtain ⟨hgma, hgmb⟩ := gmo_R q (gky q n)
      refine zr_if_ne hO ⟨by omega, by omega⟩ (tgt := 45) dX3_opensForMarked_38 rfl (fun c38 => ?_) (fun c38 => ?_)
      · skip
        refine zr_aload_n hO (hl := rfl) (j := 0) (hi := rfl) dX3_opensForMarked_45 ?_
        refine zr_iload_n hO (hl := rfl) (j := 2) (hi := rfl) dX3_opensForMarked_46 ?_
        refine zr_cVi hO zc_X3 zw_X3_266 (c_X3_shows hI hf ((hS.2 1 rfl).trans (zuA_at _ 1 _)) n (⟨by omega, by omega⟩) (hwq)) dX3_opensForMarked_47 (zrd_of hf.1) rfl (rest := [zi a]) rfl ⟨Nat.le_of_ble_eq_true rfl, Nat.le_of_ble_eq_true rfl⟩ (Nat.le_of_ble_eq_true rfl) (Nat.le_refl _) (Nat.le_refl _) (fun x h hx => ?_)
        obtain ⟨hxv, τ1, hs1, hf⟩ := hx
        have hxv : x = gopm q n := hxv
        rw [hxv]
        refine zr_iadd hO dX3_opensForMarked_50 ?_
        refine zr_istore_n hO (L' := [(1, zi (a + (gopm q n))), (0, zp r), (2, zi n)]) (hi := rfl) dX3_opensForMarked_51 (Nat.le_of_ble_eq_true rfl) rfl ?_
        refine zr_iinc hO (L' := [(2, zi (n + 1)), (1, zi (a + (gopm q n))), (0, zp r)]) (j := 2) dX3_opensForMarked_52 rfl (Nat.le_of_ble_eq_true rfl) rfl ?_
        refine zr_goto hO (tgt := 22) dX3_opensForMarked_55 rfl ?_
        refine zV.loc [2, 1, 0] rfl ?_
        exact ih22 _ (by omega) τ1 (gsw q n) (a + (gopm q n)) (n + 1) rfl (by omega) (by omega) (by rw [show n + 1 - 1 = n by omega, gom_p g i1, i3]; unfold gomF; exact if_neg c38) (((zSm_up hS).trans hs1)) h hf
      · skip
        refine zr_iconst hO dX3_opensForMarked_41 ?_
        refine zr_goto hO (tgt := 50) dX3_opensForMarked_42 rfl ?_
        refine zr_iadd hO dX3_opensForMarked_50 ?_
        refine zr_istore_n hO (L' := [(1, zi (a + 0)), (0, zp r), (2, zi n)]) (hi := rfl) dX3_opensForMarked_51 (Nat.le_of_ble_eq_true rfl) rfl ?_
        refine zr_iinc hO (L' := [(2, zi (n + 1)), (1, zi (a + 0)), (0, zp r)]) (j := 2) dX3_opensForMarked_52 rfl (Nat.le_of_ble_eq_true rfl) rfl ?_
        refine zr_goto hO (tgt := 22) dX3_opensForMarked_55 rfl ?_
        refine zV.loc [2, 1, 0] rfl ?_
        exact ih22 _ (by omega) ρ q (a + 0) (n + 1) rfl (by omega) (by omega) (by rw [show n + 1 - 1 = n by omega, gom_p g i1, i3]; unfold gomF; rw [Int.add_zero]; exact if_pos c38) (hS) h hf
  refine zV.loc [2, 1, 0] rfl ?_
  exact hl22 _ (zuA (zuS σ 0 0) 2 (gcp g 0 (σ.2 2) 0 2195)) g 0 1 rfl (by omega) (by omega) (rfl) (by rw [← hg, zuA_id' 1 (by rfl)]; exact zSm.refl _) h hf
