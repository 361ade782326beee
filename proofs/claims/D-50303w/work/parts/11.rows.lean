/-! THE V LAYER's ROWS: pure instructions, locals, branches (printed by gen/rows.py) -/
section ZR
variable {G : zG} {K : zM} {own : String} {cc : ByteArray} {nL : Nat} {ret : Option FieldType} {hh : List (Nat × Nat × Nat × Nat)} {fr lo : Nat} {nm : String} {Q0 : zRs → zHp → Prop} {bc bs : Nat} {h : zHp} {pc : Nat} {L : List (Nat × zW)} {rest : List zW}
theorem zv_at {ls : Array Slot} {n : Nat} {L : List (Nat × zW)} (hL : lv_has ls n (L.map fun q => (q.1, zw q.2))) (j : Nat) {i : Nat} {v : zW} (hl : L[j]? = some (i, v)) : ls[i]? = some (.val (zw v)) :=
  lv_at hL j (by rw [List.getElem?_map, hl]; rfl)
def zst (i : Nat) (v : zW) (L : List (Nat × zW)) : List (Nat × zW) := (i, v) :: L.filter (fun q => !(q.1 == i) && !(q.1 + 1 == i && zcat q.2 == 2))
def zst2 (i : Nat) (v : zW) (L : List (Nat × zW)) : List (Nat × zW) := (i, v) :: L.filter (fun q => !(q.1 == i) && (!(q.1 == i + 1) && !(q.1 + 1 == i && zcat q.2 == 2)))
theorem zst_map (i : Nat) (v : zW) (L : List (Nat × zW)) : (i, zw v) :: (L.map fun q => (q.1, zw q.2)).filter (fun q => !(q.1 == i) && !(q.1 + 1 == i && q.2.category == 2)) = (zst i v L).map (fun q => (q.1, zw q.2)) := by
  unfold zst
  rw [List.filter_map, List.map_cons]
  refine congrArg _ (congrArg _ (congrArg (fun f => List.filter f L) (funext fun q => ?_)))
  show (!(q.1 == i) && !(q.1 + 1 == i && (zw q.2).category == 2)) = _
  rw [zcat_eq]
theorem zst2_map (i : Nat) (v : zW) (L : List (Nat × zW)) : (i, zw v) :: (L.map fun q => (q.1, zw q.2)).filter (fun q => !(q.1 == i) && (!(q.1 == i + 1) && !(q.1 + 1 == i && q.2.category == 2))) = (zst2 i v L).map (fun q => (q.1, zw q.2)) := by
  unfold zst2
  rw [List.filter_map, List.map_cons]
  refine congrArg _ (congrArg _ (congrArg (fun f => List.filter f L) (funext fun q => ?_)))
  show (!(q.1 == i) && (!(q.1 == i + 1) && !(q.1 + 1 == i && (zw q.2).category == 2))) = _
  rw [zcat_eq]
theorem zV.bud {b2 s2 : Nat} (h1 : b2 ≤ bc) (h2 : s2 ≤ bs) (k : zV G K b2 s2 h pc L rest) : zV G K bc bs h pc L rest := by
  obtain ⟨p, e, R, s, m, args, below, meth, c, Q, mc, ms⟩ := K
  intro H locs cells slots ls hH hlo h3 h4 hL
  exact k H locs cells slots ls hH hlo (by omega) (by omega) hL
/-- fewer locals, in any order: by their places -/
theorem zV.loc (ks : List Nat) {L' : List (Nat × zW)} (hl : ks.filterMap (fun k => L[k]?) = L') (k : zV G K bc bs h pc L' rest) : zV G K bc bs h pc L rest := by
  obtain ⟨p, e, R, s, m, args, below, meth, c, Q, mc, ms⟩ := K
  intro H locs cells slots ls hH hlo h3 h4 hL
  refine k H locs cells slots ls hH hlo h3 h4 (lv_sub hL ks ?_)
  subst hl
  unfold lv_pick
  rw [List.map_filterMap]
  refine congrArg (fun f => List.filterMap f ks) (funext fun j => ?_)
  rw [List.getElem?_map]
theorem zV.heq {h2 : zHp} (e : h2 = h) (k : zV G K bc bs h2 pc L rest) : zV G K bc bs h pc L rest := e ▸ k
theorem zr_iconst (hO : zO G K own cc nL ret hh fr lo nm Q0) {n : Int} (hd : decode cc pc = .ok (.iconst n, 1)) (k : zV G K bc bs h (pc + 1) L (zi n :: rest)) : zV G K bc bs h pc L rest := by
  obtain ⟨p, e, R, s, m, args, below, meth, c, Q, mc, ms⟩ := K
  obtain ⟨⟨hx, hb, hml, hown, hts⟩, hG, hr, hlk, htb, ⟨hRf, hRl, hRc, hRs⟩, hnm, rfl⟩ := hO
  intro H locs cells slots ls hH hlo h1 h2 hL
  exact lv_iconst (v := zI n) hx hb hd rfl (k H locs cells slots ls hH hlo h1 h2 hL)
theorem zr_bipush (hO : zO G K own cc nL ret hh fr lo nm Q0) {n : Int} (hv : (Int8.ofInt n).toInt32 = zI n) (hd : decode cc pc = .ok (.bipush n, 2)) (k : zV G K bc bs h (pc + 2) L (zi n :: rest)) : zV G K bc bs h pc L rest := by
  obtain ⟨p, e, R, s, m, args, below, meth, c, Q, mc, ms⟩ := K
  obtain ⟨⟨hx, hb, hml, hown, hts⟩, hG, hr, hlk, htb, ⟨hRf, hRl, hRc, hRs⟩, hnm, rfl⟩ := hO
  intro H locs cells slots ls hH hlo h1 h2 hL
  exact lv_bipush (v := zI n) hx hb hd hv (k H locs cells slots ls hH hlo h1 h2 hL)
theorem zr_sipush (hO : zO G K own cc nL ret hh fr lo nm Q0) {n : Int} (hv : (Int16.ofInt n).toInt32 = zI n) (hd : decode cc pc = .ok (.sipush n, 3)) (k : zV G K bc bs h (pc + 3) L (zi n :: rest)) : zV G K bc bs h pc L rest := by
  obtain ⟨p, e, R, s, m, args, below, meth, c, Q, mc, ms⟩ := K
  obtain ⟨⟨hx, hb, hml, hown, hts⟩, hG, hr, hlk, htb, ⟨hRf, hRl, hRc, hRs⟩, hnm, rfl⟩ := hO
  intro H locs cells slots ls hH hlo h1 h2 hL
  exact lv_sipush (v := zI n) hx hb hd hv (k H locs cells slots ls hH hlo h1 h2 hL)
theorem zr_lconst (hO : zO G K own cc nL ret hh fr lo nm Q0) {n : Fin 2} {x : Int} (hv : Int64.ofNat (n : Nat) = Int64.ofInt x) (hd : decode cc pc = .ok (.lconst n, 1)) (k : zV G K bc bs h (pc + 1) L (zl x :: rest)) : zV G K bc bs h pc L rest := by
  obtain ⟨p, e, R, s, m, args, below, meth, c, Q, mc, ms⟩ := K
  obtain ⟨⟨hx, hb, hml, hown, hts⟩, hG, hr, hlk, htb, ⟨hRf, hRl, hRc, hRs⟩, hnm, rfl⟩ := hO
  intro H locs cells slots ls hH hlo h1 h2 hL
  exact lv_lconst (v := Int64.ofInt x) hx hb hd hv (k H locs cells slots ls hH hlo h1 h2 hL)
theorem zr_ldc (hO : zO G K own cc nL ret hh fr lo nm Q0) {i : Nat} {v : Int32} {x : Int} (hc : Cond.constant own i v ∈ lw_all) (hv : v = zI x) (hd : decode cc pc = .ok (.ldc i, 2)) (k : zV G K bc bs h (pc + 2) L (zi x :: rest)) : zV G K bc bs h pc L rest := by
  obtain ⟨p, e, R, s, m, args, below, meth, c, Q, mc, ms⟩ := K
  obtain ⟨⟨hx, hb, hml, hown, hts⟩, hG, hr, hlk, htb, ⟨hRf, hRl, hRc, hRs⟩, hnm, rfl⟩ := hO
  intro H locs cells slots ls hH hlo h1 h2 hL
  exact lv_ldc (v := zI x) hx hb hown (hv ▸ hts _ hc) hd (k H locs cells slots ls hH hlo h1 h2 hL)
theorem zr_ldc2 (hO : zO G K own cc nL ret hh fr lo nm Q0) {i : Nat} {v : Int64} {x : Int} (hc : Cond.constantLong own i v ∈ lw_all) (hv : v = Int64.ofInt x) (hd : decode cc pc = .ok (.ldc2_w i, 3)) (k : zV G K bc bs h (pc + 3) L (zl x :: rest)) : zV G K bc bs h pc L rest := by
  obtain ⟨p, e, R, s, m, args, below, meth, c, Q, mc, ms⟩ := K
  obtain ⟨⟨hx, hb, hml, hown, hts⟩, hG, hr, hlk, htb, ⟨hRf, hRl, hRc, hRs⟩, hnm, rfl⟩ := hO
  intro H locs cells slots ls hH hlo h1 h2 hL
  exact lv_ldc2 (v := Int64.ofInt x) hx hb hown (hv ▸ hts _ hc) hd (k H locs cells slots ls hH hlo h1 h2 hL)
theorem zr_ldcw (hO : zO G K own cc nL ret hh fr lo nm Q0) {i : Nat} {v : Int32} {x : Int} (hc : Cond.constant own i v ∈ lw_all) (hv : v = zI x) (hd : decode cc pc = .ok (.ldc_w i, 3)) (k : zV G K bc bs h (pc + 3) L (zi x :: rest)) : zV G K bc bs h pc L rest := by
  obtain ⟨p, e, R, s, m, args, below, meth, c, Q, mc, ms⟩ := K
  obtain ⟨⟨hx, hb, hml, hown, hts⟩, hG, hr, hlk, htb, ⟨hRf, hRl, hRc, hRs⟩, hnm, rfl⟩ := hO
  intro H locs cells slots ls hH hlo h1 h2 hL
  exact lv_ldcw (v := zI x) hx hb hown (hv ▸ hts _ hc) hd (k H locs cells slots ls hH hlo h1 h2 hL)
theorem zr_null (hO : zO G K own cc nL ret hh fr lo nm Q0)  (hd : decode cc pc = .ok (.aconst_null, 1)) (k : zV G K bc bs h (pc + 1) L (zn :: rest)) : zV G K bc bs h pc L rest := by
  obtain ⟨p, e, R, s, m, args, below, meth, c, Q, mc, ms⟩ := K
  obtain ⟨⟨hx, hb, hml, hown, hts⟩, hG, hr, hlk, htb, ⟨hRf, hRl, hRc, hRs⟩, hnm, rfl⟩ := hO
  intro H locs cells slots ls hH hlo h1 h2 hL
  exact lv_null hx hb hd (k H locs cells slots ls hH hlo h1 h2 hL)
theorem zr_fconst0 (hO : zO G K own cc nL ret hh fr lo nm Q0)  (hd : decode cc pc = .ok (.fconst 0, 1)) (k : zV G K bc bs h (pc + 1) L (zf FP.fconst0 :: rest)) : zV G K bc bs h pc L rest := by
  obtain ⟨p, e, R, s, m, args, below, meth, c, Q, mc, ms⟩ := K
  obtain ⟨⟨hx, hb, hml, hown, hts⟩, hG, hr, hlk, htb, ⟨hRf, hRl, hRc, hRs⟩, hnm, rfl⟩ := hO
  intro H locs cells slots ls hH hlo h1 h2 hL
  exact lv_fconst0 hx hb hd (k H locs cells slots ls hH hlo h1 h2 hL)
theorem zr_dconst0 (hO : zO G K own cc nL ret hh fr lo nm Q0)  (hd : decode cc pc = .ok (.dconst 0, 1)) (k : zV G K bc bs h (pc + 1) L (zd FP.dconst0 :: rest)) : zV G K bc bs h pc L rest := by
  obtain ⟨p, e, R, s, m, args, below, meth, c, Q, mc, ms⟩ := K
  obtain ⟨⟨hx, hb, hml, hown, hts⟩, hG, hr, hlk, htb, ⟨hRf, hRl, hRc, hRs⟩, hnm, rfl⟩ := hO
  intro H locs cells slots ls hH hlo h1 h2 hL
  exact lv_dconst0 hx hb hd (k H locs cells slots ls hH hlo h1 h2 hL)
theorem zr_iload_n (hO : zO G K own cc nL ret hh fr lo nm Q0) {k0 : Fin 4} {i : Nat} {x : Int} (j : Nat) (hl : L[j]? = some (i, zi x)) (hi : (k0 : Nat) = i) (hd : decode cc pc = .ok (.iload_n k0, 1)) (k : zV G K bc bs h (pc + 1) L (zi x :: rest)) : zV G K bc bs h pc L rest := by
  obtain ⟨p, e, R, s, m, args, below, meth, c, Q, mc, ms⟩ := K
  obtain ⟨⟨hx, hb, hml, hown, hts⟩, hG, hr, hlk, htb, ⟨hRf, hRl, hRc, hRs⟩, hnm, rfl⟩ := hO
  intro H locs cells slots ls hH hlo h1 h2 hL
  exact lv_iload_n hx hb hd hi (zv_at hL j hl) (k H locs cells slots ls hH hlo h1 h2 hL)
theorem zr_iload (hO : zO G K own cc nL ret hh fr lo nm Q0) {i : Nat} {x : Int} (j : Nat) (hl : L[j]? = some (i, zi x)) (hd : decode cc pc = .ok (.iload i, 2)) (k : zV G K bc bs h (pc + 2) L (zi x :: rest)) : zV G K bc bs h pc L rest := by
  obtain ⟨p, e, R, s, m, args, below, meth, c, Q, mc, ms⟩ := K
  obtain ⟨⟨hx, hb, hml, hown, hts⟩, hG, hr, hlk, htb, ⟨hRf, hRl, hRc, hRs⟩, hnm, rfl⟩ := hO
  intro H locs cells slots ls hH hlo h1 h2 hL
  exact lv_iload hx hb hd (zv_at hL j hl) (k H locs cells slots ls hH hlo h1 h2 hL)
theorem zr_lload_n (hO : zO G K own cc nL ret hh fr lo nm Q0) {k0 : Fin 4} {i : Nat} {x : Int} (j : Nat) (hl : L[j]? = some (i, zl x)) (hi : (k0 : Nat) = i) (hd : decode cc pc = .ok (.lload_n k0, 1)) (k : zV G K bc bs h (pc + 1) L (zl x :: rest)) : zV G K bc bs h pc L rest := by
  obtain ⟨p, e, R, s, m, args, below, meth, c, Q, mc, ms⟩ := K
  obtain ⟨⟨hx, hb, hml, hown, hts⟩, hG, hr, hlk, htb, ⟨hRf, hRl, hRc, hRs⟩, hnm, rfl⟩ := hO
  intro H locs cells slots ls hH hlo h1 h2 hL
  exact lv_lload_n hx hb hd hi (zv_at hL j hl) (k H locs cells slots ls hH hlo h1 h2 hL)
theorem zr_lload (hO : zO G K own cc nL ret hh fr lo nm Q0) {i : Nat} {x : Int} (j : Nat) (hl : L[j]? = some (i, zl x)) (hd : decode cc pc = .ok (.lload i, 2)) (k : zV G K bc bs h (pc + 2) L (zl x :: rest)) : zV G K bc bs h pc L rest := by
  obtain ⟨p, e, R, s, m, args, below, meth, c, Q, mc, ms⟩ := K
  obtain ⟨⟨hx, hb, hml, hown, hts⟩, hG, hr, hlk, htb, ⟨hRf, hRl, hRc, hRs⟩, hnm, rfl⟩ := hO
  intro H locs cells slots ls hH hlo h1 h2 hL
  exact lv_lload hx hb hd (zv_at hL j hl) (k H locs cells slots ls hH hlo h1 h2 hL)
theorem zr_dload_n (hO : zO G K own cc nL ret hh fr lo nm Q0) {k0 : Fin 4} {i : Nat} {x : UInt64} (j : Nat) (hl : L[j]? = some (i, zd x)) (hi : (k0 : Nat) = i) (hd : decode cc pc = .ok (.dload_n k0, 1)) (k : zV G K bc bs h (pc + 1) L (zd x :: rest)) : zV G K bc bs h pc L rest := by
  obtain ⟨p, e, R, s, m, args, below, meth, c, Q, mc, ms⟩ := K
  obtain ⟨⟨hx, hb, hml, hown, hts⟩, hG, hr, hlk, htb, ⟨hRf, hRl, hRc, hRs⟩, hnm, rfl⟩ := hO
  intro H locs cells slots ls hH hlo h1 h2 hL
  exact lv_dload_n hx hb hd hi (zv_at hL j hl) (k H locs cells slots ls hH hlo h1 h2 hL)
theorem zr_dload (hO : zO G K own cc nL ret hh fr lo nm Q0) {i : Nat} {x : UInt64} (j : Nat) (hl : L[j]? = some (i, zd x)) (hd : decode cc pc = .ok (.dload i, 2)) (k : zV G K bc bs h (pc + 2) L (zd x :: rest)) : zV G K bc bs h pc L rest := by
  obtain ⟨p, e, R, s, m, args, below, meth, c, Q, mc, ms⟩ := K
  obtain ⟨⟨hx, hb, hml, hown, hts⟩, hG, hr, hlk, htb, ⟨hRf, hRl, hRc, hRs⟩, hnm, rfl⟩ := hO
  intro H locs cells slots ls hH hlo h1 h2 hL
  exact lv_dload hx hb hd (zv_at hL j hl) (k H locs cells slots ls hH hlo h1 h2 hL)
theorem zr_aload_n (hO : zO G K own cc nL ret hh fr lo nm Q0) {k0 : Fin 4} {i : Nat} {r : Option Nat} (j : Nat) (hl : L[j]? = some (i, zq r)) (hi : (k0 : Nat) = i) (hd : decode cc pc = .ok (.aload_n k0, 1)) (k : zV G K bc bs h (pc + 1) L (zq r :: rest)) : zV G K bc bs h pc L rest := by
  obtain ⟨p, e, R, s, m, args, below, meth, c, Q, mc, ms⟩ := K
  obtain ⟨⟨hx, hb, hml, hown, hts⟩, hG, hr, hlk, htb, ⟨hRf, hRl, hRc, hRs⟩, hnm, rfl⟩ := hO
  intro H locs cells slots ls hH hlo h1 h2 hL
  cases r with
  | none => exact lv_aload_nN hx hb hd hi (zv_at hL j hl) (k H locs cells slots ls hH hlo h1 h2 hL)
  | some a => exact lv_aload_n hx hb hd hi (zv_at hL j hl) (k H locs cells slots ls hH hlo h1 h2 hL)
theorem zr_aload (hO : zO G K own cc nL ret hh fr lo nm Q0) {i : Nat} {r : Option Nat} (j : Nat) (hl : L[j]? = some (i, zq r)) (hd : decode cc pc = .ok (.aload i, 2)) (k : zV G K bc bs h (pc + 2) L (zq r :: rest)) : zV G K bc bs h pc L rest := by
  obtain ⟨p, e, R, s, m, args, below, meth, c, Q, mc, ms⟩ := K
  obtain ⟨⟨hx, hb, hml, hown, hts⟩, hG, hr, hlk, htb, ⟨hRf, hRl, hRc, hRs⟩, hnm, rfl⟩ := hO
  intro H locs cells slots ls hH hlo h1 h2 hL
  cases r with
  | none => exact lv_aloadN hx hb hd (zv_at hL j hl) (k H locs cells slots ls hH hlo h1 h2 hL)
  | some a => exact lv_aload hx hb hd (zv_at hL j hl) (k H locs cells slots ls hH hlo h1 h2 hL)
theorem zr_istore_n (hO : zO G K own cc nL ret hh fr lo nm Q0) {k0 : Fin 4} {i : Nat} {x : Int} (hi : (k0 : Nat) = i) {L' : List (Nat × zW)} (hd : decode cc pc = .ok (.istore_n k0, 1)) (hn : i < nL) (hl : zst i (zi x) L = L') (k : zV G K bc bs h (pc + 1) L' rest) : zV G K bc bs h pc L (zi x :: rest) := by
  obtain ⟨p, e, R, s, m, args, below, meth, c, Q, mc, ms⟩ := K
  obtain ⟨⟨hx, hb, hml, hown, hts⟩, hG, hr, hlk, htb, ⟨hRf, hRl, hRc, hRs⟩, hnm, rfl⟩ := hO
  intro H locs cells slots ls hH hlo h1 h2 hL
  subst hml
  subst hl
  exact lv_istore_n hx hb hd hi hL hn (zst_map i (zi x) L) (fun ls' hL' => k H locs cells slots ls' hH hlo h1 h2 hL')
theorem zr_istore (hO : zO G K own cc nL ret hh fr lo nm Q0) {i : Nat} {x : Int} {L' : List (Nat × zW)} (hd : decode cc pc = .ok (.istore i, 2)) (hn : i < nL) (hl : zst i (zi x) L = L') (k : zV G K bc bs h (pc + 2) L' rest) : zV G K bc bs h pc L (zi x :: rest) := by
  obtain ⟨p, e, R, s, m, args, below, meth, c, Q, mc, ms⟩ := K
  obtain ⟨⟨hx, hb, hml, hown, hts⟩, hG, hr, hlk, htb, ⟨hRf, hRl, hRc, hRs⟩, hnm, rfl⟩ := hO
  intro H locs cells slots ls hH hlo h1 h2 hL
  subst hml
  subst hl
  exact lv_istore hx hb hd hL hn (zst_map i (zi x) L) (fun ls' hL' => k H locs cells slots ls' hH hlo h1 h2 hL')
theorem zr_lstore_n (hO : zO G K own cc nL ret hh fr lo nm Q0) {k0 : Fin 4} {i : Nat} {x : Int} (hi : (k0 : Nat) = i) {L' : List (Nat × zW)} (hd : decode cc pc = .ok (.lstore_n k0, 1)) (hn : i + 1 < nL) (hl : zst2 i (zl x) L = L') (k : zV G K bc bs h (pc + 1) L' rest) : zV G K bc bs h pc L (zl x :: rest) := by
  obtain ⟨p, e, R, s, m, args, below, meth, c, Q, mc, ms⟩ := K
  obtain ⟨⟨hx, hb, hml, hown, hts⟩, hG, hr, hlk, htb, ⟨hRf, hRl, hRc, hRs⟩, hnm, rfl⟩ := hO
  intro H locs cells slots ls hH hlo h1 h2 hL
  subst hml
  subst hl
  exact lv_lstore_n hx hb hd hi hL hn (zst2_map i (zl x) L) (fun ls' hL' => k H locs cells slots ls' hH hlo h1 h2 hL')
theorem zr_lstore (hO : zO G K own cc nL ret hh fr lo nm Q0) {i : Nat} {x : Int} {L' : List (Nat × zW)} (hd : decode cc pc = .ok (.lstore i, 2)) (hn : i + 1 < nL) (hl : zst2 i (zl x) L = L') (k : zV G K bc bs h (pc + 2) L' rest) : zV G K bc bs h pc L (zl x :: rest) := by
  obtain ⟨p, e, R, s, m, args, below, meth, c, Q, mc, ms⟩ := K
  obtain ⟨⟨hx, hb, hml, hown, hts⟩, hG, hr, hlk, htb, ⟨hRf, hRl, hRc, hRs⟩, hnm, rfl⟩ := hO
  intro H locs cells slots ls hH hlo h1 h2 hL
  subst hml
  subst hl
  exact lv_lstore hx hb hd hL hn (zst2_map i (zl x) L) (fun ls' hL' => k H locs cells slots ls' hH hlo h1 h2 hL')
theorem zr_dstore (hO : zO G K own cc nL ret hh fr lo nm Q0) {i : Nat} {x : UInt64} {L' : List (Nat × zW)} (hd : decode cc pc = .ok (.dstore i, 2)) (hn : i + 1 < nL) (hl : zst2 i (zd x) L = L') (k : zV G K bc bs h (pc + 2) L' rest) : zV G K bc bs h pc L (zd x :: rest) := by
  obtain ⟨p, e, R, s, m, args, below, meth, c, Q, mc, ms⟩ := K
  obtain ⟨⟨hx, hb, hml, hown, hts⟩, hG, hr, hlk, htb, ⟨hRf, hRl, hRc, hRs⟩, hnm, rfl⟩ := hO
  intro H locs cells slots ls hH hlo h1 h2 hL
  subst hml
  subst hl
  exact lv_dstore hx hb hd hL hn (zst2_map i (zd x) L) (fun ls' hL' => k H locs cells slots ls' hH hlo h1 h2 hL')
theorem zr_astore_n (hO : zO G K own cc nL ret hh fr lo nm Q0) {k0 : Fin 4} {i : Nat} {r : Option Nat} (hi : (k0 : Nat) = i) {L' : List (Nat × zW)} (hd : decode cc pc = .ok (.astore_n k0, 1)) (hn : i < nL) (hl : zst i (zq r) L = L') (k : zV G K bc bs h (pc + 1) L' rest) : zV G K bc bs h pc L (zq r :: rest) := by
  obtain ⟨p, e, R, s, m, args, below, meth, c, Q, mc, ms⟩ := K
  obtain ⟨⟨hx, hb, hml, hown, hts⟩, hG, hr, hlk, htb, ⟨hRf, hRl, hRc, hRs⟩, hnm, rfl⟩ := hO
  intro H locs cells slots ls hH hlo h1 h2 hL
  subst hml
  subst hl
  cases r with
  | none =>
    exact lv_astore_nN hx hb hd hi hL hn (zst_map i zn L) (fun ls' hL' => k H locs cells slots ls' hH hlo h1 h2 hL')
  | some a =>
    exact lv_astore_n hx hb hd hi hL hn (zst_map i (zp a) L) (fun ls' hL' => k H locs cells slots ls' hH hlo h1 h2 hL')
theorem zr_astore (hO : zO G K own cc nL ret hh fr lo nm Q0) {i : Nat} {r : Option Nat} {L' : List (Nat × zW)} (hd : decode cc pc = .ok (.astore i, 2)) (hn : i < nL) (hl : zst i (zq r) L = L') (k : zV G K bc bs h (pc + 2) L' rest) : zV G K bc bs h pc L (zq r :: rest) := by
  obtain ⟨p, e, R, s, m, args, below, meth, c, Q, mc, ms⟩ := K
  obtain ⟨⟨hx, hb, hml, hown, hts⟩, hG, hr, hlk, htb, ⟨hRf, hRl, hRc, hRs⟩, hnm, rfl⟩ := hO
  intro H locs cells slots ls hH hlo h1 h2 hL
  subst hml
  subst hl
  cases r with
  | none =>
    exact lv_astoreN hx hb hd hL hn (zst_map i zn L) (fun ls' hL' => k H locs cells slots ls' hH hlo h1 h2 hL')
  | some a =>
    exact lv_astore hx hb hd hL hn (zst_map i (zp a) L) (fun ls' hL' => k H locs cells slots ls' hH hlo h1 h2 hL')
theorem zr_iinc (hO : zO G K own cc nL ret hh fr lo nm Q0) {i : Nat} {n x : Int} {L' : List (Nat × zW)} (j : Nat) (hd : decode cc pc = .ok (.iinc i n, 3)) (hj : L[j]? = some (i, zi x)) (hn : i < nL) (hl : zst i (zi (x + n)) L = L') (k : zV G K bc bs h (pc + 3) L' rest) : zV G K bc bs h pc L rest := by
  obtain ⟨p, e, R, s, m, args, below, meth, c, Q, mc, ms⟩ := K
  obtain ⟨⟨hx, hb, hml, hown, hts⟩, hG, hr, hlk, htb, ⟨hRf, hRl, hRc, hRs⟩, hnm, rfl⟩ := hO
  intro H locs cells slots ls hH hlo h1 h2 hL
  subst hml
  subst hl
  exact lv_iinc (v := zI (x + n)) hx hb hd hL (k := j) (by rw [List.getElem?_map, hj]; rfl) (zI_add x n) hn (zst_map i (zi (x + n)) L) (fun ls' hL' => k H locs cells slots ls' hH hlo h1 h2 hL')
theorem zr_iadd (hO : zO G K own cc nL ret hh fr lo nm Q0) {a b : Int} (hd : decode cc pc = .ok (.iadd, 1)) (k : zV G K bc bs h (pc + 1) L (zi (a + b) :: rest)) : zV G K bc bs h pc L (zi b :: zi a :: rest) := by
  obtain ⟨p, e, R, s, m, args, below, meth, c, Q, mc, ms⟩ := K
  obtain ⟨⟨hx, hb, hml, hown, hts⟩, hG, hr, hlk, htb, ⟨hRf, hRl, hRc, hRs⟩, hnm, rfl⟩ := hO
  intro H locs cells slots ls hH hlo h1 h2 hL
  refine lv_iadd hx hb hd ?_
  rw [zI_add]
  exact k H locs cells slots ls hH hlo h1 h2 hL
theorem zr_isub (hO : zO G K own cc nL ret hh fr lo nm Q0) {a b : Int} (hd : decode cc pc = .ok (.isub, 1)) (k : zV G K bc bs h (pc + 1) L (zi (a - b) :: rest)) : zV G K bc bs h pc L (zi b :: zi a :: rest) := by
  obtain ⟨p, e, R, s, m, args, below, meth, c, Q, mc, ms⟩ := K
  obtain ⟨⟨hx, hb, hml, hown, hts⟩, hG, hr, hlk, htb, ⟨hRf, hRl, hRc, hRs⟩, hnm, rfl⟩ := hO
  intro H locs cells slots ls hH hlo h1 h2 hL
  refine lv_isub hx hb hd ?_
  rw [zI_sub]
  exact k H locs cells slots ls hH hlo h1 h2 hL
theorem zr_imul (hO : zO G K own cc nL ret hh fr lo nm Q0) {a b : Int} (hd : decode cc pc = .ok (.imul, 1)) (k : zV G K bc bs h (pc + 1) L (zi (a * b) :: rest)) : zV G K bc bs h pc L (zi b :: zi a :: rest) := by
  obtain ⟨p, e, R, s, m, args, below, meth, c, Q, mc, ms⟩ := K
  obtain ⟨⟨hx, hb, hml, hown, hts⟩, hG, hr, hlk, htb, ⟨hRf, hRl, hRc, hRs⟩, hnm, rfl⟩ := hO
  intro H locs cells slots ls hH hlo h1 h2 hL
  refine lv_imul hx hb hd ?_
  rw [zI_mul]
  exact k H locs cells slots ls hH hlo h1 h2 hL
theorem zr_ineg (hO : zO G K own cc nL ret hh fr lo nm Q0) {a : Int} (hd : decode cc pc = .ok (.ineg, 1)) (k : zV G K bc bs h (pc + 1) L (zi (-a) :: rest)) : zV G K bc bs h pc L (zi a :: rest) := by
  obtain ⟨p, e, R, s, m, args, below, meth, c, Q, mc, ms⟩ := K
  obtain ⟨⟨hx, hb, hml, hown, hts⟩, hG, hr, hlk, htb, ⟨hRf, hRl, hRc, hRs⟩, hnm, rfl⟩ := hO
  intro H locs cells slots ls hH hlo h1 h2 hL
  refine lv_ineg hx hb hd ?_
  rw [zI_neg]
  exact k H locs cells slots ls hH hlo h1 h2 hL
theorem zI_div {a b : Int} (ha : 0 ≤ a) (ha2 : a ≤ 2147483647) (hb : 0 < b) (hb2 : b ≤ 2147483647) : zI a / zI b = zI (a / b) := by
  obtain ⟨n, rfl⟩ := Int.eq_ofNat_of_zero_le ha
  obtain ⟨d, rfl⟩ := Int.eq_ofNat_of_zero_le (Int.le_of_lt hb)
  have e : ∀ k : Nat, zI (k : Int) = nI k := fun k => (zI_nat k).symm
  rw [e, e, pk_div (by omega) (by omega) (by omega), ← e]
  rfl
theorem zI_mod {a b : Int} (ha : 0 ≤ a) (ha2 : a ≤ 2147483647) (hb : 0 < b) (hb2 : b ≤ 2147483647) : zI a - zI a / zI b * zI b = zI (a % b) := by
  rw [zI_div ha ha2 hb hb2, zI_mul, zI_sub, Int.emod_def, Int.mul_comm]
theorem zI_ne0 {b : Int} (hb : zR b) (h : b ≠ 0) : ¬ zI b = 0 := by
  rw [← zI_0, zI_eq hb (by constructor <;> omega)]
  exact h
theorem zr_idiv (hO : zO G K own cc nL ret hh fr lo nm Q0) {a b : Int} (ha : 0 ≤ a) (ha2 : a ≤ 2147483647) (hb0 : 0 < b) (hb2 : b ≤ 2147483647) (hd : decode cc pc = .ok (.idiv, 1)) (k : zV G K bc bs h (pc + 1) L (zi (a / b) :: rest)) : zV G K bc bs h pc L (zi b :: zi a :: rest) := by
  obtain ⟨p, e, R, s, m, args, below, meth, c, Q, mc, ms⟩ := K
  obtain ⟨⟨hx, hb, hml, hown, hts⟩, hG, hr, hlk, htb, ⟨hRf, hRl, hRc, hRs⟩, hnm, rfl⟩ := hO
  intro H locs cells slots ls hH hlo h1 h2 hL
  refine lv_idiv hx hb hd (zI_ne0 (b := b) (by constructor <;> omega) (by omega)) ?_
  rw [zI_div ha ha2 hb0 hb2]
  exact k H locs cells slots ls hH hlo h1 h2 hL
theorem zr_irem (hO : zO G K own cc nL ret hh fr lo nm Q0) {a b : Int} (ha : 0 ≤ a) (ha2 : a ≤ 2147483647) (hb0 : 0 < b) (hb2 : b ≤ 2147483647) (hd : decode cc pc = .ok (.irem, 1)) (k : zV G K bc bs h (pc + 1) L (zi (a % b) :: rest)) : zV G K bc bs h pc L (zi b :: zi a :: rest) := by
  obtain ⟨p, e, R, s, m, args, below, meth, c, Q, mc, ms⟩ := K
  obtain ⟨⟨hx, hb, hml, hown, hts⟩, hG, hr, hlk, htb, ⟨hRf, hRl, hRc, hRs⟩, hnm, rfl⟩ := hO
  intro H locs cells slots ls hH hlo h1 h2 hL
  refine lv_irem hx hb hd (zI_ne0 (b := b) (by constructor <;> omega) (by omega)) ?_
  rw [zI_mod ha ha2 hb0 hb2]
  exact k H locs cells slots ls hH hlo h1 h2 hL
theorem zr_iremV (hO : zO G K own cc nL ret hh fr lo nm Q0) {a b x : Int} (hb0 : zR b) (hb2 : b ≠ 0) (hv : zI a - zI a / zI b * zI b = zI x) (hd : decode cc pc = .ok (.irem, 1)) (k : zV G K bc bs h (pc + 1) L (zi x :: rest)) : zV G K bc bs h pc L (zi b :: zi a :: rest) := by
  obtain ⟨p, e, R, s, m, args, below, meth, c, Q, mc, ms⟩ := K
  obtain ⟨⟨hx, hb, hml, hown, hts⟩, hG, hr, hlk, htb, ⟨hRf, hRl, hRc, hRs⟩, hnm, rfl⟩ := hO
  intro H locs cells slots ls hH hlo h1 h2 hL
  refine lv_irem hx hb hd (zI_ne0 hb0 hb2) ?_
  rw [hv]
  exact k H locs cells slots ls hH hlo h1 h2 hL
theorem zr_idivV (hO : zO G K own cc nL ret hh fr lo nm Q0) {a b x : Int} (hb0 : zR b) (hb2 : b ≠ 0) (hv : zI a / zI b = zI x) (hd : decode cc pc = .ok (.idiv, 1)) (k : zV G K bc bs h (pc + 1) L (zi x :: rest)) : zV G K bc bs h pc L (zi b :: zi a :: rest) := by
  obtain ⟨p, e, R, s, m, args, below, meth, c, Q, mc, ms⟩ := K
  obtain ⟨⟨hx, hb, hml, hown, hts⟩, hG, hr, hlk, htb, ⟨hRf, hRl, hRc, hRs⟩, hnm, rfl⟩ := hO
  intro H locs cells slots ls hH hlo h1 h2 hL
  refine lv_idiv hx hb hd (zI_ne0 hb0 hb2) ?_
  rw [hv]
  exact k H locs cells slots ls hH hlo h1 h2 hL
theorem zr_iand (hO : zO G K own cc nL ret hh fr lo nm Q0) {a b x : Int} (hv : zI a &&& zI b = zI x) (hd : decode cc pc = .ok (.iand, 1)) (k : zV G K bc bs h (pc + 1) L (zi x :: rest)) : zV G K bc bs h pc L (zi b :: zi a :: rest) := by
  obtain ⟨p, e, R, s, m, args, below, meth, c, Q, mc, ms⟩ := K
  obtain ⟨⟨hx, hb, hml, hown, hts⟩, hG, hr, hlk, htb, ⟨hRf, hRl, hRc, hRs⟩, hnm, rfl⟩ := hO
  intro H locs cells slots ls hH hlo h1 h2 hL
  refine lv_iand hx hb hd ?_
  rw [hv]
  exact k H locs cells slots ls hH hlo h1 h2 hL
theorem zr_ior (hO : zO G K own cc nL ret hh fr lo nm Q0) {a b x : Int} (hv : zI a ||| zI b = zI x) (hd : decode cc pc = .ok (.ior, 1)) (k : zV G K bc bs h (pc + 1) L (zi x :: rest)) : zV G K bc bs h pc L (zi b :: zi a :: rest) := by
  obtain ⟨p, e, R, s, m, args, below, meth, c, Q, mc, ms⟩ := K
  obtain ⟨⟨hx, hb, hml, hown, hts⟩, hG, hr, hlk, htb, ⟨hRf, hRl, hRc, hRs⟩, hnm, rfl⟩ := hO
  intro H locs cells slots ls hH hlo h1 h2 hL
  refine lv_ior hx hb hd ?_
  rw [hv]
  exact k H locs cells slots ls hH hlo h1 h2 hL
theorem zr_ixor (hO : zO G K own cc nL ret hh fr lo nm Q0) {a b x : Int} (hv : zI a ^^^ zI b = zI x) (hd : decode cc pc = .ok (.ixor, 1)) (k : zV G K bc bs h (pc + 1) L (zi x :: rest)) : zV G K bc bs h pc L (zi b :: zi a :: rest) := by
  obtain ⟨p, e, R, s, m, args, below, meth, c, Q, mc, ms⟩ := K
  obtain ⟨⟨hx, hb, hml, hown, hts⟩, hG, hr, hlk, htb, ⟨hRf, hRl, hRc, hRs⟩, hnm, rfl⟩ := hO
  intro H locs cells slots ls hH hlo h1 h2 hL
  refine lv_ixor hx hb hd ?_
  rw [hv]
  exact k H locs cells slots ls hH hlo h1 h2 hL
theorem zr_ishl (hO : zO G K own cc nL ret hh fr lo nm Q0) {a b x : Int} (hv : zI a <<< (zI b &&& 31) = zI x) (hd : decode cc pc = .ok (.ishl, 1)) (k : zV G K bc bs h (pc + 1) L (zi x :: rest)) : zV G K bc bs h pc L (zi b :: zi a :: rest) := by
  obtain ⟨p, e, R, s, m, args, below, meth, c, Q, mc, ms⟩ := K
  obtain ⟨⟨hx, hb, hml, hown, hts⟩, hG, hr, hlk, htb, ⟨hRf, hRl, hRc, hRs⟩, hnm, rfl⟩ := hO
  intro H locs cells slots ls hH hlo h1 h2 hL
  refine lv_ishl hx hb hd ?_
  rw [hv]
  exact k H locs cells slots ls hH hlo h1 h2 hL
theorem zr_ishr (hO : zO G K own cc nL ret hh fr lo nm Q0) {a b x : Int} (hv : zI a >>> (zI b &&& 31) = zI x) (hd : decode cc pc = .ok (.ishr, 1)) (k : zV G K bc bs h (pc + 1) L (zi x :: rest)) : zV G K bc bs h pc L (zi b :: zi a :: rest) := by
  obtain ⟨p, e, R, s, m, args, below, meth, c, Q, mc, ms⟩ := K
  obtain ⟨⟨hx, hb, hml, hown, hts⟩, hG, hr, hlk, htb, ⟨hRf, hRl, hRc, hRs⟩, hnm, rfl⟩ := hO
  intro H locs cells slots ls hH hlo h1 h2 hL
  refine lv_ishr hx hb hd ?_
  rw [hv]
  exact k H locs cells slots ls hH hlo h1 h2 hL
theorem zr_iushr (hO : zO G K own cc nL ret hh fr lo nm Q0) {a b x : Int} (hv : ((zI a).toUInt32 >>> ((zI b).toUInt32 &&& Int32.toUInt32 31)).toInt32 = zI x) (hd : decode cc pc = .ok (.iushr, 1)) (k : zV G K bc bs h (pc + 1) L (zi x :: rest)) : zV G K bc bs h pc L (zi b :: zi a :: rest) := by
  obtain ⟨p, e, R, s, m, args, below, meth, c, Q, mc, ms⟩ := K
  obtain ⟨⟨hx, hb, hml, hown, hts⟩, hG, hr, hlk, htb, ⟨hRf, hRl, hRc, hRs⟩, hnm, rfl⟩ := hO
  intro H locs cells slots ls hH hlo h1 h2 hL
  exact lv_iushr hx hb hd hv (k H locs cells slots ls hH hlo h1 h2 hL)
theorem zr_i2b (hO : zO G K own cc nL ret hh fr lo nm Q0) {a x : Int} (hv : (zI a).toInt8.toInt32 = zI x) (hd : decode cc pc = .ok (.i2b, 1)) (k : zV G K bc bs h (pc + 1) L (zi x :: rest)) : zV G K bc bs h pc L (zi a :: rest) := by
  obtain ⟨p, e, R, s, m, args, below, meth, c, Q, mc, ms⟩ := K
  obtain ⟨⟨hx, hb, hml, hown, hts⟩, hG, hr, hlk, htb, ⟨hRf, hRl, hRc, hRs⟩, hnm, rfl⟩ := hO
  intro H locs cells slots ls hH hlo h1 h2 hL
  exact lv_i2b hx hb hd hv (k H locs cells slots ls hH hlo h1 h2 hL)
theorem zr_i2c (hO : zO G K own cc nL ret hh fr lo nm Q0) {a x : Int} (hv : ((zI a).toUInt32 % 65536).toInt32 = zI x) (hd : decode cc pc = .ok (.i2c, 1)) (k : zV G K bc bs h (pc + 1) L (zi x :: rest)) : zV G K bc bs h pc L (zi a :: rest) := by
  obtain ⟨p, e, R, s, m, args, below, meth, c, Q, mc, ms⟩ := K
  obtain ⟨⟨hx, hb, hml, hown, hts⟩, hG, hr, hlk, htb, ⟨hRf, hRl, hRc, hRs⟩, hnm, rfl⟩ := hO
  intro H locs cells slots ls hH hlo h1 h2 hL
  exact lv_i2c hx hb hd hv (k H locs cells slots ls hH hlo h1 h2 hL)
theorem zr_i2l (hO : zO G K own cc nL ret hh fr lo nm Q0) {a : Int} (ra : zR a) (hd : decode cc pc = .ok (.i2l, 1)) (k : zV G K bc bs h (pc + 1) L (zl a :: rest)) : zV G K bc bs h pc L (zi a :: rest) := by
  obtain ⟨p, e, R, s, m, args, below, meth, c, Q, mc, ms⟩ := K
  obtain ⟨⟨hx, hb, hml, hown, hts⟩, hG, hr, hlk, htb, ⟨hRf, hRl, hRc, hRs⟩, hnm, rfl⟩ := hO
  intro H locs cells slots ls hH hlo h1 h2 hL
  exact lv_i2l (v := Int64.ofInt a) hx hb hd (by rw [← zI_toInt ra, zI_of]; exact (Int64.ofInt_int32ToInt _).symm) (k H locs cells slots ls hH hlo h1 h2 hL)
theorem zr_l2i (hO : zO G K own cc nL ret hh fr lo nm Q0) {a : Int} (hd : decode cc pc = .ok (.l2i, 1)) (k : zV G K bc bs h (pc + 1) L (zi a :: rest)) : zV G K bc bs h pc L (zl a :: rest) := by
  obtain ⟨p, e, R, s, m, args, below, meth, c, Q, mc, ms⟩ := K
  obtain ⟨⟨hx, hb, hml, hown, hts⟩, hG, hr, hlk, htb, ⟨hRf, hRl, hRc, hRs⟩, hnm, rfl⟩ := hO
  intro H locs cells slots ls hH hlo h1 h2 hL
  exact lv_l2i (v := zI a) hx hb hd (Int64.toInt32_ofInt) (k H locs cells slots ls hH hlo h1 h2 hL)
theorem zr_i2f (hO : zO G K own cc nL ret hh fr lo nm Q0) {a : Int} (hd : decode cc pc = .ok (.i2f, 1)) (k : zV G K bc bs h (pc + 1) L (zf (FP.i2f (zI a)) :: rest)) : zV G K bc bs h pc L (zi a :: rest) := by
  obtain ⟨p, e, R, s, m, args, below, meth, c, Q, mc, ms⟩ := K
  obtain ⟨⟨hx, hb, hml, hown, hts⟩, hG, hr, hlk, htb, ⟨hRf, hRl, hRc, hRs⟩, hnm, rfl⟩ := hO
  intro H locs cells slots ls hH hlo h1 h2 hL
  exact lv_i2f hx hb hd (k H locs cells slots ls hH hlo h1 h2 hL)
theorem zr_i2d (hO : zO G K own cc nL ret hh fr lo nm Q0) {a : Int} (hd : decode cc pc = .ok (.i2d, 1)) (k : zV G K bc bs h (pc + 1) L (zd (FP.i2d (zI a)) :: rest)) : zV G K bc bs h pc L (zi a :: rest) := by
  obtain ⟨p, e, R, s, m, args, below, meth, c, Q, mc, ms⟩ := K
  obtain ⟨⟨hx, hb, hml, hown, hts⟩, hG, hr, hlk, htb, ⟨hRf, hRl, hRc, hRs⟩, hnm, rfl⟩ := hO
  intro H locs cells slots ls hH hlo h1 h2 hL
  exact lv_i2d hx hb hd (k H locs cells slots ls hH hlo h1 h2 hL)
theorem zr_fdiv (hO : zO G K own cc nL ret hh fr lo nm Q0) {x y : UInt32} (hne : vf_n32 (FP.fdiv x y)) (hd : decode cc pc = .ok (.fdiv, 1)) (k : zV G K bc bs h (pc + 1) L (zf (FP.fdiv x y) :: rest)) : zV G K bc bs h pc L (zf y :: zf x :: rest) := by
  obtain ⟨p, e, R, s, m, args, below, meth, c, Q, mc, ms⟩ := K
  obtain ⟨⟨hx, hb, hml, hown, hts⟩, hG, hr, hlk, htb, ⟨hRf, hRl, hRc, hRs⟩, hnm, rfl⟩ := hO
  intro H locs cells slots ls hH hlo h1 h2 hL
  exact lv_fdiv hx hb hd hne (k H locs cells slots ls hH hlo h1 h2 hL)
theorem zr_ddiv (hO : zO G K own cc nL ret hh fr lo nm Q0) {x y : UInt64} (hne : vf_n64 (FP.ddiv x y)) (hd : decode cc pc = .ok (.ddiv, 1)) (k : zV G K bc bs h (pc + 1) L (zd (FP.ddiv x y) :: rest)) : zV G K bc bs h pc L (zd y :: zd x :: rest) := by
  obtain ⟨p, e, R, s, m, args, below, meth, c, Q, mc, ms⟩ := K
  obtain ⟨⟨hx, hb, hml, hown, hts⟩, hG, hr, hlk, htb, ⟨hRf, hRl, hRc, hRs⟩, hnm, rfl⟩ := hO
  intro H locs cells slots ls hH hlo h1 h2 hL
  exact lv_ddiv hx hb hd hne (k H locs cells slots ls hH hlo h1 h2 hL)
theorem zr_f2d (hO : zO G K own cc nL ret hh fr lo nm Q0) {x : UInt32} (hne : vf_n64 (FP.f2d x)) (hd : decode cc pc = .ok (.f2d, 1)) (k : zV G K bc bs h (pc + 1) L (zd (FP.f2d x) :: rest)) : zV G K bc bs h pc L (zf x :: rest) := by
  obtain ⟨p, e, R, s, m, args, below, meth, c, Q, mc, ms⟩ := K
  obtain ⟨⟨hx, hb, hml, hown, hts⟩, hG, hr, hlk, htb, ⟨hRf, hRl, hRc, hRs⟩, hnm, rfl⟩ := hO
  intro H locs cells slots ls hH hlo h1 h2 hL
  exact lv_f2d hx hb hd hne (k H locs cells slots ls hH hlo h1 h2 hL)
theorem zr_dcmp (hO : zO G K own cc nL ret hh fr lo nm Q0) {x y : UInt64} {op : CmpOp} {v : Int} (hv : Op.cmpValue (FP.dcmp x y) op = zI v) (hd : decode cc pc = .ok (.dcmp op, 1)) (k : zV G K bc bs h (pc + 1) L (zi v :: rest)) : zV G K bc bs h pc L (zd y :: zd x :: rest) := by
  obtain ⟨p, e, R, s, m, args, below, meth, c, Q, mc, ms⟩ := K
  obtain ⟨⟨hx, hb, hml, hown, hts⟩, hG, hr, hlk, htb, ⟨hRf, hRl, hRc, hRs⟩, hnm, rfl⟩ := hO
  intro H locs cells slots ls hH hlo h1 h2 hL
  refine lv_dcmp hx hb hd ?_
  rw [hv]
  exact k H locs cells slots ls hH hlo h1 h2 hL
theorem zr_ladd (hO : zO G K own cc nL ret hh fr lo nm Q0) {a b : Int} (hd : decode cc pc = .ok (.ladd, 1)) (k : zV G K bc bs h (pc + 1) L (zl (a + b) :: rest)) : zV G K bc bs h pc L (zl b :: zl a :: rest) := by
  obtain ⟨p, e, R, s, m, args, below, meth, c, Q, mc, ms⟩ := K
  obtain ⟨⟨hx, hb, hml, hown, hts⟩, hG, hr, hlk, htb, ⟨hRf, hRl, hRc, hRs⟩, hnm, rfl⟩ := hO
  intro H locs cells slots ls hH hlo h1 h2 hL
  refine lv_ladd hx hb hd ?_
  rw [← Int64.ofInt_add]
  exact k H locs cells slots ls hH hlo h1 h2 hL
theorem zr_lsub (hO : zO G K own cc nL ret hh fr lo nm Q0) {a b : Int} (hd : decode cc pc = .ok (.lsub, 1)) (k : zV G K bc bs h (pc + 1) L (zl (a - b) :: rest)) : zV G K bc bs h pc L (zl b :: zl a :: rest) := by
  obtain ⟨p, e, R, s, m, args, below, meth, c, Q, mc, ms⟩ := K
  obtain ⟨⟨hx, hb, hml, hown, hts⟩, hG, hr, hlk, htb, ⟨hRf, hRl, hRc, hRs⟩, hnm, rfl⟩ := hO
  intro H locs cells slots ls hH hlo h1 h2 hL
  refine lv_lsub hx hb hd ?_
  rw [← Int64.ofInt_sub]
  exact k H locs cells slots ls hH hlo h1 h2 hL
theorem zr_land (hO : zO G K own cc nL ret hh fr lo nm Q0) {a b x : Int} (hv : Int64.ofInt a &&& Int64.ofInt b = Int64.ofInt x) (hd : decode cc pc = .ok (.land, 1)) (k : zV G K bc bs h (pc + 1) L (zl x :: rest)) : zV G K bc bs h pc L (zl b :: zl a :: rest) := by
  obtain ⟨p, e, R, s, m, args, below, meth, c, Q, mc, ms⟩ := K
  obtain ⟨⟨hx, hb, hml, hown, hts⟩, hG, hr, hlk, htb, ⟨hRf, hRl, hRc, hRs⟩, hnm, rfl⟩ := hO
  intro H locs cells slots ls hH hlo h1 h2 hL
  refine lv_land hx hb hd ?_
  rw [hv]
  exact k H locs cells slots ls hH hlo h1 h2 hL
theorem zr_lor (hO : zO G K own cc nL ret hh fr lo nm Q0) {a b x : Int} (hv : Int64.ofInt a ||| Int64.ofInt b = Int64.ofInt x) (hd : decode cc pc = .ok (.lor, 1)) (k : zV G K bc bs h (pc + 1) L (zl x :: rest)) : zV G K bc bs h pc L (zl b :: zl a :: rest) := by
  obtain ⟨p, e, R, s, m, args, below, meth, c, Q, mc, ms⟩ := K
  obtain ⟨⟨hx, hb, hml, hown, hts⟩, hG, hr, hlk, htb, ⟨hRf, hRl, hRc, hRs⟩, hnm, rfl⟩ := hO
  intro H locs cells slots ls hH hlo h1 h2 hL
  refine lv_lor hx hb hd ?_
  rw [hv]
  exact k H locs cells slots ls hH hlo h1 h2 hL
theorem zr_lxor (hO : zO G K own cc nL ret hh fr lo nm Q0) {a b x : Int} (hv : Int64.ofInt a ^^^ Int64.ofInt b = Int64.ofInt x) (hd : decode cc pc = .ok (.lxor, 1)) (k : zV G K bc bs h (pc + 1) L (zl x :: rest)) : zV G K bc bs h pc L (zl b :: zl a :: rest) := by
  obtain ⟨p, e, R, s, m, args, below, meth, c, Q, mc, ms⟩ := K
  obtain ⟨⟨hx, hb, hml, hown, hts⟩, hG, hr, hlk, htb, ⟨hRf, hRl, hRc, hRs⟩, hnm, rfl⟩ := hO
  intro H locs cells slots ls hH hlo h1 h2 hL
  refine lv_lxor hx hb hd ?_
  rw [hv]
  exact k H locs cells slots ls hH hlo h1 h2 hL
theorem zr_lshl (hO : zO G K own cc nL ret hh fr lo nm Q0) {a b x : Int} (hv : Int64.ofInt a <<< ((zI b).toInt64 &&& 63) = Int64.ofInt x) (hd : decode cc pc = .ok (.lshl, 1)) (k : zV G K bc bs h (pc + 1) L (zl x :: rest)) : zV G K bc bs h pc L (zi b :: zl a :: rest) := by
  obtain ⟨p, e, R, s, m, args, below, meth, c, Q, mc, ms⟩ := K
  obtain ⟨⟨hx, hb, hml, hown, hts⟩, hG, hr, hlk, htb, ⟨hRf, hRl, hRc, hRs⟩, hnm, rfl⟩ := hO
  intro H locs cells slots ls hH hlo h1 h2 hL
  exact lv_lshl hx hb hd hv (k H locs cells slots ls hH hlo h1 h2 hL)
theorem zr_lushr (hO : zO G K own cc nL ret hh fr lo nm Q0) {a b x : Int} (hv : ((Int64.ofInt a).toUInt64 >>> ((zI b).toInt64.toUInt64 &&& Int64.toUInt64 63)).toInt64 = Int64.ofInt x) (hd : decode cc pc = .ok (.lushr, 1)) (k : zV G K bc bs h (pc + 1) L (zl x :: rest)) : zV G K bc bs h pc L (zi b :: zl a :: rest) := by
  obtain ⟨p, e, R, s, m, args, below, meth, c, Q, mc, ms⟩ := K
  obtain ⟨⟨hx, hb, hml, hown, hts⟩, hG, hr, hlk, htb, ⟨hRf, hRl, hRc, hRs⟩, hnm, rfl⟩ := hO
  intro H locs cells slots ls hH hlo h1 h2 hL
  exact lv_lushr hx hb hd hv (k H locs cells slots ls hH hlo h1 h2 hL)
theorem zr_lcmp (hO : zO G K own cc nL ret hh fr lo nm Q0) {a b x : Int} (hv : lg_cmp (Int64.ofInt a) (Int64.ofInt b) = zI x) (hd : decode cc pc = .ok (.lcmp, 1)) (k : zV G K bc bs h (pc + 1) L (zi x :: rest)) : zV G K bc bs h pc L (zl b :: zl a :: rest) := by
  obtain ⟨p, e, R, s, m, args, below, meth, c, Q, mc, ms⟩ := K
  obtain ⟨⟨hx, hb, hml, hown, hts⟩, hG, hr, hlk, htb, ⟨hRf, hRl, hRc, hRs⟩, hnm, rfl⟩ := hO
  intro H locs cells slots ls hH hlo h1 h2 hL
  refine W.lcmp hx hb hd ?_
  rw [hv]
  exact k H locs cells slots ls hH hlo h1 h2 hL
theorem zr_dup (hO : zO G K own cc nL ret hh fr lo nm Q0) {v : zW} (hc : zcat v = 1) (hd : decode cc pc = .ok (.dup, 1)) (k : zV G K bc bs h (pc + 1) L (v :: v :: rest)) : zV G K bc bs h pc L (v :: rest) := by
  obtain ⟨p, e, R, s, m, args, below, meth, c, Q, mc, ms⟩ := K
  obtain ⟨⟨hx, hb, hml, hown, hts⟩, hG, hr, hlk, htb, ⟨hRf, hRl, hRc, hRs⟩, hnm, rfl⟩ := hO
  intro H locs cells slots ls hH hlo h1 h2 hL
  exact lv_dup hx hb hd ((zcat_eq v).trans hc) (k H locs cells slots ls hH hlo h1 h2 hL)
theorem zr_pop (hO : zO G K own cc nL ret hh fr lo nm Q0) {v : zW} (hc : zcat v = 1) (hd : decode cc pc = .ok (.pop, 1)) (k : zV G K bc bs h (pc + 1) L rest) : zV G K bc bs h pc L (v :: rest) := by
  obtain ⟨p, e, R, s, m, args, below, meth, c, Q, mc, ms⟩ := K
  obtain ⟨⟨hx, hb, hml, hown, hts⟩, hG, hr, hlk, htb, ⟨hRf, hRl, hRc, hRs⟩, hnm, rfl⟩ := hO
  intro H locs cells slots ls hH hlo h1 h2 hL
  exact lv_pop hx hb hd ((zcat_eq v).trans hc) (k H locs cells slots ls hH hlo h1 h2 hL)
theorem zr_dup_x1 (hO : zO G K own cc nL ret hh fr lo nm Q0) {v w : zW} (hc : zcat v = 1) (hc2 : zcat w = 1) (hd : decode cc pc = .ok (.dup_x1, 1)) (k : zV G K bc bs h (pc + 1) L (v :: w :: v :: rest)) : zV G K bc bs h pc L (v :: w :: rest) := by
  obtain ⟨p, e, R, s, m, args, below, meth, c, Q, mc, ms⟩ := K
  obtain ⟨⟨hx, hb, hml, hown, hts⟩, hG, hr, hlk, htb, ⟨hRf, hRl, hRc, hRs⟩, hnm, rfl⟩ := hO
  intro H locs cells slots ls hH hlo h1 h2 hL
  exact lv_dup_x1 hx hb hd ((zcat_eq v).trans hc) ((zcat_eq w).trans hc2) (k H locs cells slots ls hH hlo h1 h2 hL)
theorem zr_dup2 (hO : zO G K own cc nL ret hh fr lo nm Q0) {v w : zW} (hc : zcat v = 1) (hc2 : zcat w = 1) (hd : decode cc pc = .ok (.dup2, 1)) (k : zV G K bc bs h (pc + 1) L (v :: w :: v :: w :: rest)) : zV G K bc bs h pc L (v :: w :: rest) := by
  obtain ⟨p, e, R, s, m, args, below, meth, c, Q, mc, ms⟩ := K
  obtain ⟨⟨hx, hb, hml, hown, hts⟩, hG, hr, hlk, htb, ⟨hRf, hRl, hRc, hRs⟩, hnm, rfl⟩ := hO
  intro H locs cells slots ls hH hlo h1 h2 hL
  exact lv_dup2_11 hx hb hd ((zcat_eq v).trans hc) ((zcat_eq w).trans hc2) (k H locs cells slots ls hH hlo h1 h2 hL)
theorem zr_goto (hO : zO G K own cc nL ret hh fr lo nm Q0) {off : Int} {tgt : Nat} (hd : decode cc pc = .ok (.goto off, 3)) (ht : (pc : Int) + off = (tgt : Int)) (k : zV G K bc bs h tgt L rest) : zV G K bc bs h pc L rest := by
  obtain ⟨p, e, R, s, m, args, below, meth, c, Q, mc, ms⟩ := K
  obtain ⟨⟨hx, hb, hml, hown, hts⟩, hG, hr, hlk, htb, ⟨hRf, hRl, hRc, hRs⟩, hnm, rfl⟩ := hO
  intro H locs cells slots ls hH hlo h1 h2 hL
  exact lv_goto hx hb hd ht (k H locs cells slots ls hH hlo h1 h2 hL)
theorem zr_icmp_eq (hO : zO G K own cc nL ret hh fr lo nm Q0) {a b : Int} (ra : zR a) (rb : zR b) {off : Int} {tgt : Nat} (hd : decode cc pc = .ok (.if_icmp .eq off, 3)) (ht : (pc : Int) + off = (tgt : Int)) (kt : a = b → zV G K bc bs h tgt L rest) (kf : a ≠ b → zV G K bc bs h (pc + 3) L rest) : zV G K bc bs h pc L (zi b :: zi a :: rest) := by
  obtain ⟨p, e, R, s, m, args, below, meth, c, Q, mc, ms⟩ := K
  obtain ⟨⟨hx, hb, hml, hown, hts⟩, hG, hr, hlk, htb, ⟨hRf, hRl, hRc, hRs⟩, hnm, rfl⟩ := hO
  intro H locs cells slots ls hH hlo h1 h2 hL
  exact lv_icmp_eq hx hb hd ht (fun q => kt ((zI_eq ra rb).mp q) H locs cells slots ls hH hlo h1 h2 hL) (fun q => kf (fun z => q ((zI_eq ra rb).mpr z)) H locs cells slots ls hH hlo h1 h2 hL)
theorem zr_if_eq (hO : zO G K own cc nL ret hh fr lo nm Q0) {a : Int} (ra : zR a) {off : Int} {tgt : Nat} (hd : decode cc pc = .ok (.ifCond .eq off, 3)) (ht : (pc : Int) + off = (tgt : Int)) (kt : a = 0 → zV G K bc bs h tgt L rest) (kf : a ≠ 0 → zV G K bc bs h (pc + 3) L rest) : zV G K bc bs h pc L (zi a :: rest) := by
  obtain ⟨p, e, R, s, m, args, below, meth, c, Q, mc, ms⟩ := K
  obtain ⟨⟨hx, hb, hml, hown, hts⟩, hG, hr, hlk, htb, ⟨hRf, hRl, hRc, hRs⟩, hnm, rfl⟩ := hO
  intro H locs cells slots ls hH hlo h1 h2 hL
  have rb : zR 0 := by constructor <;> omega
  exact lv_if_eq hx hb hd ht (fun q => kt ((zI_eq ra rb).mp q) H locs cells slots ls hH hlo h1 h2 hL) (fun q => kf (fun z => q ((zI_eq ra rb).mpr z)) H locs cells slots ls hH hlo h1 h2 hL)
theorem zr_icmp_ne (hO : zO G K own cc nL ret hh fr lo nm Q0) {a b : Int} (ra : zR a) (rb : zR b) {off : Int} {tgt : Nat} (hd : decode cc pc = .ok (.if_icmp .ne off, 3)) (ht : (pc : Int) + off = (tgt : Int)) (kt : a ≠ b → zV G K bc bs h tgt L rest) (kf : a = b → zV G K bc bs h (pc + 3) L rest) : zV G K bc bs h pc L (zi b :: zi a :: rest) := by
  obtain ⟨p, e, R, s, m, args, below, meth, c, Q, mc, ms⟩ := K
  obtain ⟨⟨hx, hb, hml, hown, hts⟩, hG, hr, hlk, htb, ⟨hRf, hRl, hRc, hRs⟩, hnm, rfl⟩ := hO
  intro H locs cells slots ls hH hlo h1 h2 hL
  exact lv_icmp_ne hx hb hd ht (fun q => kt (fun z => q ((zI_eq ra rb).mpr z)) H locs cells slots ls hH hlo h1 h2 hL) (fun q => kf ((zI_eq ra rb).mp q) H locs cells slots ls hH hlo h1 h2 hL)
theorem zr_if_ne (hO : zO G K own cc nL ret hh fr lo nm Q0) {a : Int} (ra : zR a) {off : Int} {tgt : Nat} (hd : decode cc pc = .ok (.ifCond .ne off, 3)) (ht : (pc : Int) + off = (tgt : Int)) (kt : a ≠ 0 → zV G K bc bs h tgt L rest) (kf : a = 0 → zV G K bc bs h (pc + 3) L rest) : zV G K bc bs h pc L (zi a :: rest) := by
  obtain ⟨p, e, R, s, m, args, below, meth, c, Q, mc, ms⟩ := K
  obtain ⟨⟨hx, hb, hml, hown, hts⟩, hG, hr, hlk, htb, ⟨hRf, hRl, hRc, hRs⟩, hnm, rfl⟩ := hO
  intro H locs cells slots ls hH hlo h1 h2 hL
  have rb : zR 0 := by constructor <;> omega
  exact lv_if_ne hx hb hd ht (fun q => kt (fun z => q ((zI_eq ra rb).mpr z)) H locs cells slots ls hH hlo h1 h2 hL) (fun q => kf ((zI_eq ra rb).mp q) H locs cells slots ls hH hlo h1 h2 hL)
theorem zr_icmp_lt (hO : zO G K own cc nL ret hh fr lo nm Q0) {a b : Int} (ra : zR a) (rb : zR b) {off : Int} {tgt : Nat} (hd : decode cc pc = .ok (.if_icmp .lt off, 3)) (ht : (pc : Int) + off = (tgt : Int)) (kt : a < b → zV G K bc bs h tgt L rest) (kf : b ≤ a → zV G K bc bs h (pc + 3) L rest) : zV G K bc bs h pc L (zi b :: zi a :: rest) := by
  obtain ⟨p, e, R, s, m, args, below, meth, c, Q, mc, ms⟩ := K
  obtain ⟨⟨hx, hb, hml, hown, hts⟩, hG, hr, hlk, htb, ⟨hRf, hRl, hRc, hRs⟩, hnm, rfl⟩ := hO
  intro H locs cells slots ls hH hlo h1 h2 hL
  exact lv_icmp_lt hx hb hd ht (fun q => kt ((zI_lt ra rb).mp q) H locs cells slots ls hH hlo h1 h2 hL) (fun q => kf (Int.not_lt.mp fun z => q ((zI_lt ra rb).mpr z)) H locs cells slots ls hH hlo h1 h2 hL)
theorem zr_if_lt (hO : zO G K own cc nL ret hh fr lo nm Q0) {a : Int} (ra : zR a) {off : Int} {tgt : Nat} (hd : decode cc pc = .ok (.ifCond .lt off, 3)) (ht : (pc : Int) + off = (tgt : Int)) (kt : a < 0 → zV G K bc bs h tgt L rest) (kf : 0 ≤ a → zV G K bc bs h (pc + 3) L rest) : zV G K bc bs h pc L (zi a :: rest) := by
  obtain ⟨p, e, R, s, m, args, below, meth, c, Q, mc, ms⟩ := K
  obtain ⟨⟨hx, hb, hml, hown, hts⟩, hG, hr, hlk, htb, ⟨hRf, hRl, hRc, hRs⟩, hnm, rfl⟩ := hO
  intro H locs cells slots ls hH hlo h1 h2 hL
  have rb : zR 0 := by constructor <;> omega
  exact lv_if_lt hx hb hd ht (fun q => kt ((zI_lt ra rb).mp q) H locs cells slots ls hH hlo h1 h2 hL) (fun q => kf (Int.not_lt.mp fun z => q ((zI_lt ra rb).mpr z)) H locs cells slots ls hH hlo h1 h2 hL)
theorem zr_icmp_ge (hO : zO G K own cc nL ret hh fr lo nm Q0) {a b : Int} (ra : zR a) (rb : zR b) {off : Int} {tgt : Nat} (hd : decode cc pc = .ok (.if_icmp .ge off, 3)) (ht : (pc : Int) + off = (tgt : Int)) (kt : b ≤ a → zV G K bc bs h tgt L rest) (kf : a < b → zV G K bc bs h (pc + 3) L rest) : zV G K bc bs h pc L (zi b :: zi a :: rest) := by
  obtain ⟨p, e, R, s, m, args, below, meth, c, Q, mc, ms⟩ := K
  obtain ⟨⟨hx, hb, hml, hown, hts⟩, hG, hr, hlk, htb, ⟨hRf, hRl, hRc, hRs⟩, hnm, rfl⟩ := hO
  intro H locs cells slots ls hH hlo h1 h2 hL
  exact lv_icmp_ge hx hb hd ht (fun q => kt ((zI_le rb ra).mp q) H locs cells slots ls hH hlo h1 h2 hL) (fun q => kf (Int.not_le.mp fun z => q ((zI_le rb ra).mpr z)) H locs cells slots ls hH hlo h1 h2 hL)
theorem zr_if_ge (hO : zO G K own cc nL ret hh fr lo nm Q0) {a : Int} (ra : zR a) {off : Int} {tgt : Nat} (hd : decode cc pc = .ok (.ifCond .ge off, 3)) (ht : (pc : Int) + off = (tgt : Int)) (kt : 0 ≤ a → zV G K bc bs h tgt L rest) (kf : a < 0 → zV G K bc bs h (pc + 3) L rest) : zV G K bc bs h pc L (zi a :: rest) := by
  obtain ⟨p, e, R, s, m, args, below, meth, c, Q, mc, ms⟩ := K
  obtain ⟨⟨hx, hb, hml, hown, hts⟩, hG, hr, hlk, htb, ⟨hRf, hRl, hRc, hRs⟩, hnm, rfl⟩ := hO
  intro H locs cells slots ls hH hlo h1 h2 hL
  have rb : zR 0 := by constructor <;> omega
  exact lv_if_ge hx hb hd ht (fun q => kt ((zI_le rb ra).mp q) H locs cells slots ls hH hlo h1 h2 hL) (fun q => kf (Int.not_le.mp fun z => q ((zI_le rb ra).mpr z)) H locs cells slots ls hH hlo h1 h2 hL)
theorem zr_icmp_gt (hO : zO G K own cc nL ret hh fr lo nm Q0) {a b : Int} (ra : zR a) (rb : zR b) {off : Int} {tgt : Nat} (hd : decode cc pc = .ok (.if_icmp .gt off, 3)) (ht : (pc : Int) + off = (tgt : Int)) (kt : b < a → zV G K bc bs h tgt L rest) (kf : a ≤ b → zV G K bc bs h (pc + 3) L rest) : zV G K bc bs h pc L (zi b :: zi a :: rest) := by
  obtain ⟨p, e, R, s, m, args, below, meth, c, Q, mc, ms⟩ := K
  obtain ⟨⟨hx, hb, hml, hown, hts⟩, hG, hr, hlk, htb, ⟨hRf, hRl, hRc, hRs⟩, hnm, rfl⟩ := hO
  intro H locs cells slots ls hH hlo h1 h2 hL
  exact lv_icmp_gt hx hb hd ht (fun q => kt ((zI_lt rb ra).mp q) H locs cells slots ls hH hlo h1 h2 hL) (fun q => kf (Int.not_lt.mp fun z => q ((zI_lt rb ra).mpr z)) H locs cells slots ls hH hlo h1 h2 hL)
theorem zr_if_gt (hO : zO G K own cc nL ret hh fr lo nm Q0) {a : Int} (ra : zR a) {off : Int} {tgt : Nat} (hd : decode cc pc = .ok (.ifCond .gt off, 3)) (ht : (pc : Int) + off = (tgt : Int)) (kt : 0 < a → zV G K bc bs h tgt L rest) (kf : a ≤ 0 → zV G K bc bs h (pc + 3) L rest) : zV G K bc bs h pc L (zi a :: rest) := by
  obtain ⟨p, e, R, s, m, args, below, meth, c, Q, mc, ms⟩ := K
  obtain ⟨⟨hx, hb, hml, hown, hts⟩, hG, hr, hlk, htb, ⟨hRf, hRl, hRc, hRs⟩, hnm, rfl⟩ := hO
  intro H locs cells slots ls hH hlo h1 h2 hL
  have rb : zR 0 := by constructor <;> omega
  exact lv_if_gt hx hb hd ht (fun q => kt ((zI_lt rb ra).mp q) H locs cells slots ls hH hlo h1 h2 hL) (fun q => kf (Int.not_lt.mp fun z => q ((zI_lt rb ra).mpr z)) H locs cells slots ls hH hlo h1 h2 hL)
theorem zr_icmp_le (hO : zO G K own cc nL ret hh fr lo nm Q0) {a b : Int} (ra : zR a) (rb : zR b) {off : Int} {tgt : Nat} (hd : decode cc pc = .ok (.if_icmp .le off, 3)) (ht : (pc : Int) + off = (tgt : Int)) (kt : a ≤ b → zV G K bc bs h tgt L rest) (kf : b < a → zV G K bc bs h (pc + 3) L rest) : zV G K bc bs h pc L (zi b :: zi a :: rest) := by
  obtain ⟨p, e, R, s, m, args, below, meth, c, Q, mc, ms⟩ := K
  obtain ⟨⟨hx, hb, hml, hown, hts⟩, hG, hr, hlk, htb, ⟨hRf, hRl, hRc, hRs⟩, hnm, rfl⟩ := hO
  intro H locs cells slots ls hH hlo h1 h2 hL
  exact lv_icmp_le hx hb hd ht (fun q => kt ((zI_le ra rb).mp q) H locs cells slots ls hH hlo h1 h2 hL) (fun q => kf (Int.not_le.mp fun z => q ((zI_le ra rb).mpr z)) H locs cells slots ls hH hlo h1 h2 hL)
theorem zr_if_le (hO : zO G K own cc nL ret hh fr lo nm Q0) {a : Int} (ra : zR a) {off : Int} {tgt : Nat} (hd : decode cc pc = .ok (.ifCond .le off, 3)) (ht : (pc : Int) + off = (tgt : Int)) (kt : a ≤ 0 → zV G K bc bs h tgt L rest) (kf : 0 < a → zV G K bc bs h (pc + 3) L rest) : zV G K bc bs h pc L (zi a :: rest) := by
  obtain ⟨p, e, R, s, m, args, below, meth, c, Q, mc, ms⟩ := K
  obtain ⟨⟨hx, hb, hml, hown, hts⟩, hG, hr, hlk, htb, ⟨hRf, hRl, hRc, hRs⟩, hnm, rfl⟩ := hO
  intro H locs cells slots ls hH hlo h1 h2 hL
  have rb : zR 0 := by constructor <;> omega
  exact lv_if_le hx hb hd ht (fun q => kt ((zI_le ra rb).mp q) H locs cells slots ls hH hlo h1 h2 hL) (fun q => kf (Int.not_le.mp fun z => q ((zI_le ra rb).mpr z)) H locs cells slots ls hH hlo h1 h2 hL)
theorem zr_ifnull (hO : zO G K own cc nL ret hh fr lo nm Q0) {r : Option Nat} {off : Int} {tgt : Nat} (hd : decode cc pc = .ok (.ifnull off, 3)) (ht : (pc : Int) + off = (tgt : Int)) (kt : r = none → zV G K bc bs h tgt L rest) (kf : ∀ a : Nat, r = some a → zV G K bc bs h (pc + 3) L rest) : zV G K bc bs h pc L (zq r :: rest) := by
  obtain ⟨p, e, R, s, m, args, below, meth, c, Q, mc, ms⟩ := K
  obtain ⟨⟨hx, hb, hml, hown, hts⟩, hG, hr, hlk, htb, ⟨hRf, hRl, hRc, hRs⟩, hnm, rfl⟩ := hO
  intro H locs cells slots ls hH hlo h1 h2 hL
  cases r with
  | none => exact lv_ifnullN hx hb hd ht (kt rfl H locs cells slots ls hH hlo h1 h2 hL)
  | some a => exact lv_ifnull hx hb hd (kf a rfl H locs cells slots ls hH hlo h1 h2 hL)
theorem zr_ifnonnull (hO : zO G K own cc nL ret hh fr lo nm Q0) {r : Option Nat} {off : Int} {tgt : Nat} (hd : decode cc pc = .ok (.ifnonnull off, 3)) (ht : (pc : Int) + off = (tgt : Int)) (kt : ∀ a : Nat, r = some a → zV G K bc bs h tgt L rest) (kf : r = none → zV G K bc bs h (pc + 3) L rest) : zV G K bc bs h pc L (zq r :: rest) := by
  obtain ⟨p, e, R, s, m, args, below, meth, c, Q, mc, ms⟩ := K
  obtain ⟨⟨hx, hb, hml, hown, hts⟩, hG, hr, hlk, htb, ⟨hRf, hRl, hRc, hRs⟩, hnm, rfl⟩ := hO
  intro H locs cells slots ls hH hlo h1 h2 hL
  cases r with
  | none => exact lv_ifnonnullN hx hb hd (kf rfl H locs cells slots ls hH hlo h1 h2 hL)
  | some a => exact lv_ifnonnull hx hb hd ht (kt a rfl H locs cells slots ls hH hlo h1 h2 hL)
theorem zr_acmp_eq (hO : zO G K own cc nL ret hh fr lo nm Q0) {x y : Option Nat} {off : Int} {tgt : Nat} (hd : decode cc pc = .ok (.if_acmp .eq off, 3)) (ht : (pc : Int) + off = (tgt : Int)) (kt : x = y → zV G K bc bs h tgt L rest) (kf : x ≠ y → zV G K bc bs h (pc + 3) L rest) : zV G K bc bs h pc L (zq y :: zq x :: rest) := by
  obtain ⟨p, e, R, s, m, args, below, meth, c, Q, mc, ms⟩ := K
  obtain ⟨⟨hx, hb, hml, hown, hts⟩, hG, hr, hlk, htb, ⟨hRf, hRl, hRc, hRs⟩, hnm, rfl⟩ := hO
  intro H locs cells slots ls hH hlo h1 h2 hL
  exact lv_acmp_eq hx hb hd ht (fun q => kt (q) H locs cells slots ls hH hlo h1 h2 hL) (fun q => kf (q) H locs cells slots ls hH hlo h1 h2 hL)
theorem zr_acmp_ne (hO : zO G K own cc nL ret hh fr lo nm Q0) {x y : Option Nat} {off : Int} {tgt : Nat} (hd : decode cc pc = .ok (.if_acmp .ne off, 3)) (ht : (pc : Int) + off = (tgt : Int)) (kt : x ≠ y → zV G K bc bs h tgt L rest) (kf : x = y → zV G K bc bs h (pc + 3) L rest) : zV G K bc bs h pc L (zq y :: zq x :: rest) := by
  obtain ⟨p, e, R, s, m, args, below, meth, c, Q, mc, ms⟩ := K
  obtain ⟨⟨hx, hb, hml, hown, hts⟩, hG, hr, hlk, htb, ⟨hRf, hRl, hRc, hRs⟩, hnm, rfl⟩ := hO
  intro H locs cells slots ls hH hlo h1 h2 hL
  exact lv_acmp_ne hx hb hd ht (fun q => kt (q) H locs cells slots ls hH hlo h1 h2 hL) (fun q => kf (q) H locs cells slots ls hH hlo h1 h2 hL)
theorem zr_swIn (hO : zO G K own cc nL ret hh fr lo nm Q0) {dflt l9 h9 a off : Int} {offs : Array Int} {len tgt : Nat} (hd : decode cc pc = .ok (.tableswitch dflt l9 h9 offs, len)) (ra : zR a) (ha : l9 ≤ a) (hb9 : a ≤ h9) (ho : offs[(a - l9).toNat]? = some off) (ht : (pc : Int) + off = (tgt : Int)) (k : zV G K bc bs h tgt L rest) : zV G K bc bs h pc L (zi a :: rest) := by
  obtain ⟨p, e, R, s, m, args, below, meth, c, Q, mc, ms⟩ := K
  obtain ⟨⟨hx, hb, hml, hown, hts⟩, hG, hr, hlk, htb, ⟨hRf, hRl, hRc, hRs⟩, hnm, rfl⟩ := hO
  intro H locs cells slots ls hH hlo h1 h2 hL
  have e := zI_toInt ra
  exact lv_tableIn hx hb hd (by rw [e]; omega) (by rw [e]; omega) (by rw [e]; exact ho) ht (k H locs cells slots ls hH hlo h1 h2 hL)
theorem zr_swOut (hO : zO G K own cc nL ret hh fr lo nm Q0) {dflt l9 h9 a : Int} {offs : Array Int} {len tgt : Nat} (hd : decode cc pc = .ok (.tableswitch dflt l9 h9 offs, len)) (ra : zR a) (ha : a < l9 ∨ h9 < a) (ht : (pc : Int) + dflt = (tgt : Int)) (k : zV G K bc bs h tgt L rest) : zV G K bc bs h pc L (zi a :: rest) := by
  obtain ⟨p, e, R, s, m, args, below, meth, c, Q, mc, ms⟩ := K
  obtain ⟨⟨hx, hb, hml, hown, hts⟩, hG, hr, hlk, htb, ⟨hRf, hRl, hRc, hRs⟩, hnm, rfl⟩ := hO
  intro H locs cells slots ls hH hlo h1 h2 hL
  have e := zI_toInt ra
  exact lv_tableOut hx hb hd (by rw [e]; exact ha) ht (k H locs cells slots ls hH hlo h1 h2 hL)
theorem zr_ireturn (hO : zO G K own cc nL (some .int) hh fr lo nm Q0) {x : Int} (hd : decode cc pc = .ok (.ireturn, 1)) (hq : Q0 (.inl (some (zi x))) h) : zV G K bc bs h pc L [zi x] := by
  obtain ⟨p, e, R, s, m, args, below, meth, c, Q, mc, ms⟩ := K
  obtain ⟨⟨hx, hb, hml, hown, hts⟩, hG, hr, hlk, htb, ⟨hRf, hRl, hRc, hRs⟩, hnm, rfl⟩ := hO
  intro H locs cells slots ls hH hlo h1 h2 hL
  refine vx_ret (W.widen (k := mc) (n := ms) (by omega) (by omega) ?_)
  exact W.iret (v := zI x) hx hb hr (fun t ht hW => ⟨some (zi x), h, rfl, by rw [ht]; exact hH, hq⟩) hlo hd hlk
theorem zr_zreturn {ty : FieldType} (hO : zO G K own cc nL (some ty) hh fr lo nm Q0) {x : Int} (hn : narrow ty (.int (zI x)) = .int (zI x)) (hd : decode cc pc = .ok (.ireturn, 1)) (hq : Q0 (.inl (some (zi x))) h) : zV G K bc bs h pc L [zi x] := by
  obtain ⟨p, e, R, s, m, args, below, meth, c, Q, mc, ms⟩ := K
  obtain ⟨⟨hx, hb, hml, hown, hts⟩, hG, hr, hlk, htb, ⟨hRf, hRl, hRc, hRs⟩, hnm, rfl⟩ := hO
  intro H locs cells slots ls hH hlo h1 h2 hL
  refine vx_ret (W.widen (k := mc) (n := ms) (by omega) (by omega) ?_)
  exact W.zret (v := zI x) hx hb hr hn (fun t ht hW => ⟨some (zi x), h, rfl, by rw [ht]; exact hH, hq⟩) hlo hd hlk
theorem zr_lreturn (hO : zO G K own cc nL (some .long) hh fr lo nm Q0) {x : Int} (hd : decode cc pc = .ok (.lreturn, 1)) (hq : Q0 (.inl (some (zl x))) h) : zV G K bc bs h pc L [zl x] := by
  obtain ⟨p, e, R, s, m, args, below, meth, c, Q, mc, ms⟩ := K
  obtain ⟨⟨hx, hb, hml, hown, hts⟩, hG, hr, hlk, htb, ⟨hRf, hRl, hRc, hRs⟩, hnm, rfl⟩ := hO
  intro H locs cells slots ls hH hlo h1 h2 hL
  refine vx_ret (W.widen (k := mc) (n := ms) (by omega) (by omega) ?_)
  exact W.lret (v := Int64.ofInt x) hx hb hr (fun t ht hW => ⟨some (zl x), h, rfl, by rw [ht]; exact hH, hq⟩) hlo hd hlk
theorem zr_freturn (hO : zO G K own cc nL (some .float) hh fr lo nm Q0) {x : UInt32} (hd : decode cc pc = .ok (.freturn, 1)) (hq : Q0 (.inl (some (zf x))) h) : zV G K bc bs h pc L [zf x] := by
  obtain ⟨p, e, R, s, m, args, below, meth, c, Q, mc, ms⟩ := K
  obtain ⟨⟨hx, hb, hml, hown, hts⟩, hG, hr, hlk, htb, ⟨hRf, hRl, hRc, hRs⟩, hnm, rfl⟩ := hO
  intro H locs cells slots ls hH hlo h1 h2 hL
  refine vx_ret (W.widen (k := mc) (n := ms) (by omega) (by omega) ?_)
  exact W.fret (v := x) hx hb hr (fun t ht hW => ⟨some (zf x), h, rfl, by rw [ht]; exact hH, hq⟩) hlo hd hlk
theorem zr_dreturn (hO : zO G K own cc nL (some .double) hh fr lo nm Q0) {x : UInt64} (hd : decode cc pc = .ok (.dreturn, 1)) (hq : Q0 (.inl (some (zd x))) h) : zV G K bc bs h pc L [zd x] := by
  obtain ⟨p, e, R, s, m, args, below, meth, c, Q, mc, ms⟩ := K
  obtain ⟨⟨hx, hb, hml, hown, hts⟩, hG, hr, hlk, htb, ⟨hRf, hRl, hRc, hRs⟩, hnm, rfl⟩ := hO
  intro H locs cells slots ls hH hlo h1 h2 hL
  refine vx_ret (W.widen (k := mc) (n := ms) (by omega) (by omega) ?_)
  exact W.dret (v := x) hx hb hr (fun t ht hW => ⟨some (zd x), h, rfl, by rw [ht]; exact hH, hq⟩) hlo hd hlk
theorem zr_areturn {ty : FieldType} (hO : zO G K own cc nL (some ty) hh fr lo nm Q0) {r : Option Nat} (hty : (∃ n, ty = .object n) ∨ ∃ t, ty = .array t) (hd : decode cc pc = .ok (.areturn, 1)) (hq : Q0 (.inl (some (zq r))) h) : zV G K bc bs h pc L [zq r] := by
  obtain ⟨p, e, R, s, m, args, below, meth, c, Q, mc, ms⟩ := K
  obtain ⟨⟨hx, hb, hml, hown, hts⟩, hG, hr, hlk, htb, ⟨hRf, hRl, hRc, hRs⟩, hnm, rfl⟩ := hO
  intro H locs cells slots ls hH hlo h1 h2 hL
  refine vx_ret (W.widen (k := mc) (n := ms) (by omega) (by omega) ?_)
  exact W.aret (v := va_rf r) hx hb hr hty (by cases r with | none => exact Or.inl rfl | some a => exact Or.inr ⟨a, rfl⟩) (fun t ht hW => ⟨some (zq r), h, rfl, by rw [ht]; exact hH, hq⟩) hlo hd hlk
theorem zr_return (hO : zO G K own cc nL none hh fr lo nm Q0) (hd : decode cc pc = .ok (.return_, 1)) (hq : Q0 (.inl none) h) : zV G K bc bs h pc L [] := by
  obtain ⟨p, e, R, s, m, args, below, meth, c, Q, mc, ms⟩ := K
  obtain ⟨⟨hx, hb, hml, hown, hts⟩, hG, hr, hlk, htb, ⟨hRf, hRl, hRc, hRs⟩, hnm, rfl⟩ := hO
  intro H locs cells slots ls hH hlo h1 h2 hL
  refine vx_ret (W.widen (k := mc) (n := ms) (by omega) (by omega) ?_)
  exact W.vret hx hb hr (fun t ht hW => ⟨none, h, rfl, by rw [ht]; exact hH, hq⟩) hlo hd hlk
end ZR
