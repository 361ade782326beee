/-! THE V LAYER's ROWS: fields, arrays, new cells, calls -/
def zCl (ci : Nat) (C : String) (T : u_T) (N : Nat) (ty : Nat → FieldType) : Prop :=
  zcl[ci]? = some (C, T, N) ∧ (∀ w ∈ u_ws C T N, w ∈ lw_all) ∧ (∀ k, k < N → parseFieldDescriptor (T k).2.2.1 = some (ty k)) ∧ (∀ a, a < N → ∀ b, b < N → a ≠ b → (T a).2.1 ≠ (T b).2.1)
theorem za_one {D : va_G} {cl : List vw_C} {q : Nat × va_E} {H : Heap} (h : va_at D cl q H) : va_P D cl [q] H := by
  intro k x hk
  have hz : k < 1 := (List.getElem?_eq_some_iff.mp hk).1
  rw [show k = 0 by omega] at hk
  cases hk
  exact h
theorem za_ob {D : va_G} {cl : List vw_C} {a ci : Nat} {fs : List Value} {H : Heap} (h : ∃ r : vw_C, cl[ci]? = some r ∧ t_OB a (D.1 ci) r.2.2 (D.2 ci) H (vp_V fs)) : va_P D cl [(a, .inr (ci, fs))] H := za_one (q := (a, .inr (ci, fs))) h
theorem za_ai {D : va_G} {cl : List vw_C} {a n : Nat} {cA : ClassId} {f : Nat → Int32} {H : Heap} (h : H[a]? = some (arrV cA n (fun j => .int (f j)))) : va_P D cl [(a, .inl (cA, n, .inl f))] H := za_one (q := (a, .inl (cA, n, .inl f))) h
theorem za_al {D : va_G} {cl : List vw_C} {a n : Nat} {cA : ClassId} {f : Nat → Int64} {H : Heap} (h : H[a]? = some (arrV cA n (fun j => .long (f j)))) : va_P D cl [(a, .inl (cA, n, .inr (.inl f)))] H := za_one (q := (a, .inl (cA, n, .inr (.inl f)))) h
theorem za_aq {D : va_G} {cl : List vw_C} {a n : Nat} {cA : ClassId} {f : Nat → Option Nat} {H : Heap} (h : H[a]? = some (arrV cA n (fun j => va_rf (f j)))) : va_P D cl [(a, .inl (cA, n, .inr (.inr (.inr (.inr f)))))] H := za_one (q := (a, .inl (cA, n, .inr (.inr (.inr (.inr f)))))) h
theorem zH.put {G : zG} {h : zHp} {H H1 : Heap} {a : Nat} {c c' : zK} (hH : zH G h H) (hc : h a = some c) (hz : zAt (zGD G) (zGA G) a c' H1) (z : H1.size = H.size) (oq : ∀ q : Nat, q ≠ a → H1[q]? = H[q]?) : zH G (zup h a c') H1 := by
  have ha := (hH.2.2 a c hc).1
  refine ⟨by rw [z]; exact hH.1, fun q hq => (oq q (fun e => by omega)).trans (hH.2.1 q hq), fun q d hd => ?_⟩
  by_cases e : q = a
  · subst e
    rw [zup_s] at hd
    cases hd
    exact ⟨ha, hz⟩
  · rw [zup_n e] at hd
    exact ⟨(hH.2.2 q d hd).1, (hH.2.2 q d hd).2.kept (oq q e)⟩
theorem zH.new {G : zG} {h : zHp} {H H1 : Heap} {c : zK} (hH : zH G h H) (hz : zAt (zGD G) (zGA G) H.size c H1) (z : H1.size = H.size + 1) (oq : ∀ q : Nat, q < H.size → H1[q]? = H[q]?) : zH G (zup h H.size c) H1 := by
  refine ⟨by rw [z]; exact Nat.le_succ_of_le hH.1, fun q hq => (oq q (Nat.lt_of_lt_of_le hq hH.1)).trans (hH.2.1 q hq), fun q d hd => ?_⟩
  by_cases e : q = H.size
  · subst e
    rw [zup_s] at hd
    cases hd
    exact ⟨hH.1, hz⟩
  · rw [zup_n e] at hd
    exact ⟨(hH.2.2 q d hd).1, (hH.2.2 q d hd).2.kept (oq q ((hH.2.2 q d hd).2.lt))⟩
theorem zrd_fresh {G : zG} {U : State} {h : zHp} {H : Heap} (hG : zGK G U) (hH : zH G h H) : zrd G h H.size = none := by
  cases e : zrd G h H.size with
  | none => rfl
  | some c => exact absurd (zrd_at hG hH e).lt (Nat.lt_irrefl _)
theorem zrd_ne {G : zG} {h : zHp} {a q : Nat} {c : zK} (e : zrd G h a = some c) (n : zrd G h q = none) : a ≠ q := fun z => by rw [z, n] at e; cases e
def zfr (v : zW) : Prop := match v with
  | .inl e => zR e
  | _ => True
def zfit (ty : FieldType) (v : zW) : Prop := narrow ty (zw v) = zw v ∧ fits ty (zw v) = true
theorem zfit_i (e : Int) : zfit .int (zi e) := ⟨rfl, rfl⟩
theorem zfit_z {e : Int} (h : e = 0 ∨ e = 1) : zfit .boolean (zi e) := by
  rcases h with rfl | rfl <;> exact ⟨by decide, by decide⟩
theorem zfit_o (n : String) (r : Option Nat) : zfit (.object n) (zq r) := by cases r <;> exact ⟨rfl, rfl⟩
theorem zfit_a (t : FieldType) (r : Option Nat) : zfit (.array t) (zq r) := by cases r <;> exact ⟨rfl, rfl⟩
def zset {α : Type} (f : Nat → α) (k : Nat) (x : α) : Nat → α := fun j => if j = k then x else f j
theorem zset_s {α : Type} {f : Nat → α} {k : Nat} {x : α} : zset f k x k = x := if_pos rfl
theorem zset_n {α : Type} {f : Nat → α} {k j : Nat} {x : α} (n : j ≠ k) : zset f k x j = f j := if_neg n
def zdv (t : FieldType) : zW := match t with
  | .object _ => zn
  | .array _ => zn
  | _ => zi 0
def zsm (t : FieldType) : Bool := match t with
  | .long => false
  | .float => false
  | .double => false
  | _ => true
theorem zdv_eq {t : FieldType} (h : zsm t = true) : defaultValue t = zw (zdv t) := by
  cases t <;> first | rfl | cases h
section ZH
variable {G : zG} {K : zM} {own : String} {cc : ByteArray} {nL : Nat} {ret : Option FieldType} {hh : List (Nat × Nat × Nat × Nat)} {fr lo : Nat} {nm : String} {Q0 : zRs → zHp → Prop} {bc bs : Nat} {h : zHp} {pc : Nat} {L : List (Nat × zW)} {rest : List zW}
theorem zr_getf (hO : zO G K own cc nL ret hh fr lo nm Q0) {ci : Nat} {C : String} {T : u_T} {N : Nat} {ty : Nat → FieldType} (hC : zCl ci C T N ty) (k : Nat) (hk : k < N) {i a : Nat} {fs : List zW} {v : zW} (hd : decode cc pc = .ok (.getfield i, 3)) (hl : Cond.fieldLink own i (T k).1 (T k).2.1 (T k).2.2.1 ∈ lw_all) (hc : zrd G h a = some (zob ci fs)) (hv : fs[k]? = some v)
    (kk : zfr v → zV G K bc bs h (pc + 3) L (v :: rest)) : zV G K bc bs h pc L (zp a :: rest) := by
  obtain ⟨p, e, R, s, m, args, below, meth, c, Q, mc, ms⟩ := K
  obtain ⟨⟨hx, hb, hml, hown, hts⟩, hG, hr, hlk, htb, ⟨hRf, hRl, hRc, hRs⟩, hnm, rfl⟩ := hO
  intro H locs cells slots ls hH hlo h1 h2 hL
  obtain ⟨⟨r, e1, e2, e3⟩, e4⟩ := zrd_at hG hH hc
  have hfv : zfr v := by
    rcases v with e9 | v
    · exact e4 e9 (List.mem_of_getElem? hv)
    · trivial
  exact va_get hx hb hts hC.2.1 hown hG.1 (za_ob ⟨r, e1, e3⟩) 0 rfl hC.1 k hk (hts _ hl) (fun _ z => z) (v := zw v) (by rw [List.getElem?_map, hv]; rfl) hd (kk hfv H locs cells slots ls hH hlo h1 h2 hL)
/-- an inherited field, spelled by its user's class -/
theorem zr_getfU (hO : zO G K own cc nL ret hh fr lo nm Q0) {ci : Nat} {C : String} {T : u_T} {N : Nat} {ty : Nat → FieldType} (hC : zCl ci C T N ty) (k : Nat) (hk : k < N) {ref : String} {i a : Nat} {fs : List zW} {v : zW} (hd : decode cc pc = .ok (.getfield i, 3)) (hl : Cond.fieldLink own i ref (T k).2.1 (T k).2.2.1 ∈ lw_all) (hs : Cond.sameField ref (T k).1 (T k).2.1 (T k).2.2.1 ∈ lw_all) (hc : zrd G h a = some (zob ci fs)) (hv : fs[k]? = some v)
    (kk : zfr v → zV G K bc bs h (pc + 3) L (v :: rest)) : zV G K bc bs h pc L (zp a :: rest) := by
  obtain ⟨p, e, R, s, m, args, below, meth, c, Q, mc, ms⟩ := K
  obtain ⟨⟨hx, hb, hml, hown, hts⟩, hG, hr, hlk, htb, ⟨hRf, hRl, hRc, hRs⟩, hnm, rfl⟩ := hO
  intro H locs cells slots ls hH hlo h1 h2 hL
  obtain ⟨⟨r, e1, e2, e3⟩, e4⟩ := zrd_at hG hH hc
  have hfv : zfr v := by
    rcases v with e9 | v
    · exact e4 e9 (List.mem_of_getElem? hv)
    · trivial
  exact va_get hx hb hts hC.2.1 hown hG.1 (za_ob ⟨r, e1, e3⟩) 0 rfl hC.1 k hk (hts _ hl) (fun x z => u_same (hts _ hs) x z) (v := zw v) (by rw [List.getElem?_map, hv]; rfl) hd (kk hfv H locs cells slots ls hH hlo h1 h2 hL)
/-- a nest mate's field -/
theorem zr_getfN (hO : zO G K own cc nL ret hh fr lo nm Q0) {ci : Nat} {C : String} {T : u_T} {N : Nat} {ty : Nat → FieldType} (hC : zCl ci C T N ty) (k : Nat) (hk : k < N) {host : String} {i a : Nat} {fs : List zW} {v : zW} (hd : decode cc pc = .ok (.getfield i, 3)) (hl : Cond.fieldLinkNest own i (T k).1 (T k).2.1 (T k).2.2.1 host ∈ lw_tbl) (hc : zrd G h a = some (zob ci fs)) (hv : fs[k]? = some v)
    (kk : zfr v → zV G K bc bs h (pc + 3) L (v :: rest)) : zV G K bc bs h pc L (zp a :: rest) := by
  obtain ⟨p, e, R, s, m, args, below, meth, c, Q, mc, ms⟩ := K
  obtain ⟨⟨hx, hb, hml, hown, hts⟩, hG, hr, hlk, htb, ⟨hRf, hRl, hRc, hRs⟩, hnm, rfl⟩ := hO
  intro H locs cells slots ls hH hlo h1 h2 hL
  obtain ⟨⟨r, e1, e2, e3⟩, e4⟩ := zrd_at hG hH hc
  have hfv : zfr v := by
    rcases v with e9 | v
    · exact e4 e9 (List.mem_of_getElem? hv)
    · trivial
  exact va_getN hx hb hts hC.2.1 hown hG.1 (za_ob ⟨r, e1, e3⟩) 0 rfl hC.1 k hk (va_Nw.use rfl (hG.2.1.2.1 _ _ _ _ _ _ hl)) (fun _ z => z) (v := zw v) (by rw [List.getElem?_map, hv]; rfl) hd (kk hfv H locs cells slots ls hH hlo h1 h2 hL)
theorem zr_set {D : va_G} {dA : Nat → ClassId} {a ci k : Nat} {fs : List zW} {v : zW} {r : vw_C} {cell : Cell} {H1 : Heap} (hz : ∀ e : Int, Sum.inl e ∈ fs → zR e) (e1 : zcl[ci]? = some r) (e2 : fs.length = r.2.2) (hk : k < r.2.2) (q2 : cell.cls = D.1 ci) (q3 : cell.vm = .none) (q4 : ∀ j, j < r.2.2 → cell.slots[D.2 ci j]? = some (vp_V (fs.map zw) j)) (hap : ∀ a b, a < r.2.2 → b < r.2.2 → a ≠ b → D.2 ci a ≠ D.2 ci b) (hR : zfr v)
    (g : H1[a]? = some (cell.setSlot (D.2 ci k) (zw v))) : zAt D dA a (zob ci (fs.set k v)) H1 := by
  refine ⟨⟨r, e1, by rw [List.length_set]; exact e2, ?_⟩, fun e he => ?_⟩
  · refine t_OB.to (V := updV (vp_V (fs.map zw)) k (zw v)) ⟨_, g, q2, q3, t_set q4 hap hk (zw v)⟩ (fun j _ => ?_)
    rw [List.map_set]
    exact vp_updV_set (by rw [List.length_map]; omega) (zw v) j
  · rcases List.mem_or_eq_of_mem_set he with h9 | h9
    · exact hz e h9
    · subst h9
      exact hR
theorem zr_putf (hO : zO G K own cc nL ret hh fr lo nm Q0) {ci : Nat} {C : String} {T : u_T} {N : Nat} {ty : Nat → FieldType} (hC : zCl ci C T N ty) (k : Nat) (hk : k < N) {i a : Nat} {fs : List zW} {v : zW} (hd : decode cc pc = .ok (.putfield i, 3)) (hl : Cond.fieldLink own i (T k).1 (T k).2.1 (T k).2.2.1 ∈ lw_all) (hc : h a = some (zob ci fs)) (hfin : (T k).2.2.2 = false) (hf : zfit (ty k) v) (hR : zfr v)
    (kk : zV G K bc bs (zup h a (zob ci (fs.set k v))) (pc + 3) L rest) : zV G K bc bs h pc L (v :: zp a :: rest) := by
  obtain ⟨p, e, R, s, m, args, below, meth, c, Q, mc, ms⟩ := K
  obtain ⟨⟨hx, hb, hml, hown, hts⟩, hG, hr, hlk, htb, ⟨hRf, hRl, hRc, hRs⟩, hnm, rfl⟩ := hO
  intro H locs cells slots ls hH hlo h1 h2 hL
  obtain ⟨⟨r, e1, e2, cell, q1, q2, q3, q4⟩, e4⟩ := (hH.2.2 a _ hc).2
  have ha := (hH.2.2 a _ hc).1
  obtain ⟨hCl, hin, hty, hnms⟩ := hC
  have hrr : r = (C, T, N) := Option.some.inj (e1.symm.trans hCl)
  subst hrr
  have hap := va_apart (own := own) hts hin ty hty hnms hG.1 hCl
  obtain ⟨hS, hfc, kC, hkC, hkind⟩ := hG.1.1 ci _ hCl
  obtain ⟨cf, kf, fi, f, hi, hsl⟩ := hS k hk
  have hlay := hts _ (hin _ (u_in_lay hk))
  unfold u_lay at hlay
  rw [if_neg (by rw [hfin]; decide)] at hlay
  have hst := (u_facts hfc hkC (u_lays hts hin hk) hi).1
  have h6 := u_store hfc hkC hkind hlay hi (hty k hk) hf.1 hf.2
  refine W.putK hx hb (f := f) ⟨hown, hts _ hl, ⟨_, _, _, hi⟩, hst⟩ (by rw [q2]; exact h6) q1 q3 (by rw [hsl]; exact k2_hasslot (q4 k hk)) rfl rfl hd fun H1 g1 g2 g3 => ?_
  rw [hsl] at g1 ⊢
  refine kk H1 _ cells slots ls (hH.put hc (zr_set e4 hCl e2 hk q2 q3 q4 hap hR g1) g2 g3) (fun q hq => ?_) h1 h2 hL
  rcases List.mem_append.mp hq with h9 | h9
  · exact hlo q h9
  · rw [List.mem_singleton.mp h9]; exact ha
/-- a nest mate's field is written -/
theorem zr_putfN (hO : zO G K own cc nL ret hh fr lo nm Q0) {ci : Nat} {C : String} {T : u_T} {N : Nat} {ty : Nat → FieldType} (hC : zCl ci C T N ty) (k : Nat) (hk : k < N) {host : String} {i a : Nat} {fs : List zW} {v : zW} (hd : decode cc pc = .ok (.putfield i, 3)) (hl : Cond.fieldLinkNest own i (T k).1 (T k).2.1 (T k).2.2.1 host ∈ lw_tbl) (hc : h a = some (zob ci fs)) (hfin : (T k).2.2.2 = false) (hf : zfit (ty k) v) (hR : zfr v)
    (kk : zV G K bc bs (zup h a (zob ci (fs.set k v))) (pc + 3) L rest) : zV G K bc bs h pc L (v :: zp a :: rest) := by
  sorry
/-- a final field in its constructor -/
theorem zr_putfF (hO : zO G K own cc nL ret hh fr lo "<init>" Q0) {ci : Nat} {C : String} {T : u_T} {N : Nat} {ty : Nat → FieldType} (hC : zCl ci C T N ty) (k : Nat) (hk : k < N) {i a : Nat} {fs : List zW} {v : zW} (hd : decode cc pc = .ok (.putfield i, 3)) (hl : Cond.fieldLink own i (T k).1 (T k).2.1 (T k).2.2.1 ∈ lw_all) (hc : h a = some (zob ci fs)) (hfin : (T k).2.2.2 = true) (hdecl : (T k).1 = own) (hf : zfit (ty k) v) (hR : zfr v)
    (kk : zV G K bc bs (zup h a (zob ci (fs.set k v))) (pc + 3) L rest) : zV G K bc bs h pc L (v :: zp a :: rest) := by
  obtain ⟨p, e, R, s, m, args, below, meth, c, Q, mc, ms⟩ := K
  obtain ⟨⟨hx, hb, hml, hown, hts⟩, hG, hr, hlk, htb, ⟨hRf, hRl, hRc, hRs⟩, hnm, rfl⟩ := hO
  intro H locs cells slots ls hH hlo h1 h2 hL
  obtain ⟨⟨r, e1, e2, cell, q1, q2, q3, q4⟩, e4⟩ := (hH.2.2 a _ hc).2
  have ha := (hH.2.2 a _ hc).1
  obtain ⟨hCl, hin, hty, hnms⟩ := hC
  have hrr : r = (C, T, N) := Option.some.inj (e1.symm.trans hCl)
  subst hrr
  have hap := va_apart (own := own) hts hin ty hty hnms hG.1 hCl
  obtain ⟨hS, hfc, kC, hkC, hkind⟩ := hG.1.1 ci _ hCl
  obtain ⟨cf, kf, fi, f, hi, hsl⟩ := hS k hk
  have hlay := hts _ (hin _ (u_in_lay hk))
  unfold u_lay at hlay
  rw [if_pos hfin] at hlay
  have hst := (u_facts hfc hkC (u_lays hts hin hk) hi).1
  have hcf : m.cls = cf := by
    obtain ⟨_, _, c', _, _, _, -, -, hf', -, -, -, hown2, -⟩ := Cond.laysFinal_spec hlay
    have e1 : c' = cf := by have := hi.symm.trans hf'; simp at this; exact this.1.symm
    rw [hdecl] at hown2
    rw [← e1]; exact Option.some.inj (hown.symm.trans hown2)
  have h6 := u_fits hfc hkC hkind (Or.inr hlay) hi (hty k hk) hf.1 hf.2
  refine W.putFinK hx hb hown (hts _ hl) hi hst hcf hnm (by rw [q2]; exact h6) q1 q3 (by rw [hsl]; exact k2_hasslot (q4 k hk)) rfl rfl hd fun H1 g1 g2 g3 => ?_
  rw [hsl] at g1 ⊢
  refine kk H1 _ cells slots ls (hH.put hc (zr_set e4 hCl e2 hk q2 q3 q4 hap hR g1) g2 g3) (fun q hq => ?_) h1 h2 hL
  rcases List.mem_append.mp hq with h9 | h9
  · exact hlo q h9
  · rw [List.mem_singleton.mp h9]; exact ha
/-- arrays -/
theorem zr_alen (hO : zO G K own cc nL ret hh fr lo nm Q0) {t n a : Nat} {x : (Nat → Int) ⊕ (Nat → Option Nat)} (hd : decode cc pc = .ok (.arraylength, 1)) (hc : zrd G h a = some (.inr (t, n, x)))
    (kk : n ≤ 2147483647 → zV G K bc bs h (pc + 1) L (zi n :: rest)) : zV G K bc bs h pc L (zp a :: rest) := by
  obtain ⟨p, e, R, s, m, args, below, meth, c, Q, mc, ms⟩ := K
  obtain ⟨⟨hx, hb, hml, hown, hts⟩, hG, hr, hlk, htb, ⟨hRf, hRl, hRc, hRs⟩, hnm, rfl⟩ := hO
  intro H locs cells slots ls hH hlo h1 h2 hL
  have hz := zrd_at hG hH hc
  have key : ∃ z : Nat → Value, H[a]? = some (arrV (zGA G t) n z) ∧ t ≤ 5 ∧ n ≤ 2147483647 := by
    rcases x with f | f
    · exact ⟨_, hz.1, by have := hz.2.1; omega, hz.2.2.1⟩
    · exact ⟨_, hz.1, by have := hz.2.1; omega, hz.2.2⟩
  obtain ⟨z, g1, g2, g3⟩ := key
  exact W.alen (n := zI (n : Int)) hx hb g1 ((hG.1.2 t _ (zty_at (zGA G) g2)).1 n z) (by rw [arrV_size]; exact zI_nat n) rfl rfl hd (kk g3 H locs cells slots ls hH hlo h1 h2 hL)
theorem zr_iald (hO : zO G K own cc nL ret hh fr lo nm Q0) {n a : Nat} {f : Nat → Int} {x : Int} (hd : decode cc pc = .ok (.iaload, 1)) (hc : zrd G h a = some (zna 0 n f)) (h0 : 0 ≤ x) (h1 : x < n)
    (kk : zR (f x.toNat) → zV G K bc bs h (pc + 1) L (zi (f x.toNat) :: rest)) : zV G K bc bs h pc L (zi x :: zp a :: rest) := by
  obtain ⟨p, e, R, s, m, args, below, meth, c, Q, mc, ms⟩ := K
  obtain ⟨⟨hx, hb, hml, hown, hts⟩, hG, hr, hlk, htb, ⟨hRf, hRl, hRc, hRs⟩, hnm, rfl⟩ := hO
  intro H locs cells slots ls hH hlo h3 h2 hL
  obtain ⟨g1, g2, g3, g4⟩ := zrd_at hG hH hc
  have ex : (zI x).toNatClampNeg = x.toNat := zI_cl (by constructor <;> omega)
  refine va_iald (f := fun j => zI (f j)) hx hb hG.1 (za_ai (f := fun j => zI (f j)) g1) 0 0 rfl rfl (zI_in h0 h1 g3) hd ?_
  rw [ex]
  exact kk (g4 _ (by omega)) H locs cells slots ls hH hlo h3 h2 hL
theorem zr_bald (hO : zO G K own cc nL ret hh fr lo nm Q0) {n a : Nat} {f : Nat → Int} {x : Int} (hd : decode cc pc = .ok (.baload, 1)) (hc : zrd G h a = some (zna 1 n f)) (h0 : 0 ≤ x) (h1 : x < n)
    (kk : -128 ≤ f x.toNat ∧ f x.toNat ≤ 127 → zV G K bc bs h (pc + 1) L (zi (f x.toNat) :: rest)) : zV G K bc bs h pc L (zi x :: zp a :: rest) := by
  obtain ⟨p, e, R, s, m, args, below, meth, c, Q, mc, ms⟩ := K
  obtain ⟨⟨hx, hb, hml, hown, hts⟩, hG, hr, hlk, htb, ⟨hRf, hRl, hRc, hRs⟩, hnm, rfl⟩ := hO
  intro H locs cells slots ls hH hlo h3 h2 hL
  obtain ⟨g1, g2, g3, g4⟩ := zrd_at hG hH hc
  have ex : (zI x).toNatClampNeg = x.toNat := zI_cl (by constructor <;> omega)
  refine va_bald (f := fun j => zI (f j)) hx hb hG.1 (za_ai (f := fun j => zI (f j)) g1) 0 1 rfl rfl (zI_in h0 h1 g3) hd ?_
  rw [ex]
  exact kk (g4 _ (by omega)) H locs cells slots ls hH hlo h3 h2 hL
theorem zr_zald (hO : zO G K own cc nL ret hh fr lo nm Q0) {n a : Nat} {f : Nat → Int} {x : Int} (hd : decode cc pc = .ok (.baload, 1)) (hc : zrd G h a = some (zna 2 n f)) (h0 : 0 ≤ x) (h1 : x < n)
    (kk : f x.toNat = 0 ∨ f x.toNat = 1 → zV G K bc bs h (pc + 1) L (zi (f x.toNat) :: rest)) : zV G K bc bs h pc L (zi x :: zp a :: rest) := by
  obtain ⟨p, e, R, s, m, args, below, meth, c, Q, mc, ms⟩ := K
  obtain ⟨⟨hx, hb, hml, hown, hts⟩, hG, hr, hlk, htb, ⟨hRf, hRl, hRc, hRs⟩, hnm, rfl⟩ := hO
  intro H locs cells slots ls hH hlo h3 h2 hL
  obtain ⟨g1, g2, g3, g4⟩ := zrd_at hG hH hc
  have ex : (zI x).toNatClampNeg = x.toNat := zI_cl (by constructor <;> omega)
  refine va_zald (f := fun j => zI (f j)) hx hb hG.1 (za_ai (f := fun j => zI (f j)) g1) 0 2 rfl rfl (zI_in h0 h1 g3) hd ?_
  rw [ex]
  exact kk (g4 _ (by omega)) H locs cells slots ls hH hlo h3 h2 hL
theorem zr_lald (hO : zO G K own cc nL ret hh fr lo nm Q0) {n a : Nat} {f : Nat → Int} {x : Int} (hd : decode cc pc = .ok (.laload, 1)) (hc : zrd G h a = some (zna 3 n f)) (h0 : 0 ≤ x) (h1 : x < n)
    (kk : -9223372036854775808 ≤ f x.toNat ∧ f x.toNat ≤ 9223372036854775807 → zV G K bc bs h (pc + 1) L (zl (f x.toNat) :: rest)) : zV G K bc bs h pc L (zi x :: zp a :: rest) := by
  obtain ⟨p, e, R, s, m, args, below, meth, c, Q, mc, ms⟩ := K
  obtain ⟨⟨hx, hb, hml, hown, hts⟩, hG, hr, hlk, htb, ⟨hRf, hRl, hRc, hRs⟩, hnm, rfl⟩ := hO
  intro H locs cells slots ls hH hlo h3 h2 hL
  obtain ⟨g1, g2, g3, g4⟩ := zrd_at hG hH hc
  have ex : (zI x).toNatClampNeg = x.toNat := zI_cl (by constructor <;> omega)
  refine va_lald (f := fun j => Int64.ofInt (f j)) hx hb hG.1 (za_al (f := fun j => Int64.ofInt (f j)) g1) 0 3 rfl rfl (zI_in h0 h1 g3) hd ?_
  rw [ex]
  exact kk (g4 _ (by omega)) H locs cells slots ls hH hlo h3 h2 hL
/-- references out of an array: of Object (4) or of Page (5) -/
theorem zr_aald (hO : zO G K own cc nL ret hh fr lo nm Q0) {t n a : Nat} {f : Nat → Option Nat} {x : Int} (hd : decode cc pc = .ok (.aaload, 1)) (hc : zrd G h a = some (zqa t n f)) (h0 : 0 ≤ x) (h1 : x < n)
    (kk : zV G K bc bs h (pc + 1) L (zq (f x.toNat) :: rest)) : zV G K bc bs h pc L (zi x :: zp a :: rest) := by
  obtain ⟨p, e, R, s, m, args, below, meth, c, Q, mc, ms⟩ := K
  obtain ⟨⟨hx, hb, hml, hown, hts⟩, hG, hr, hlk, htb, ⟨hRf, hRl, hRc, hRs⟩, hnm, rfl⟩ := hO
  intro H locs cells slots ls hH hlo h3 h2 hL
  obtain ⟨g1, g2, g3⟩ := zrd_at hG hH hc
  have ex : (zI x).toNatClampNeg = x.toNat := zI_cl (by constructor <;> omega)
  have hk := kk H locs cells slots ls hH hlo h3 h2 hL
  rcases g2 with rfl | rfl
  · refine va_aldq (C := "java/lang/Object") (f := f) hx hb hG.1 (za_aq (f := f) g1) 0 4 rfl rfl (zI_in h0 h1 g3) hd ?_
    rw [ex]
    exact hk
  · refine va_aldq (C := "FoldLister$Page") (f := f) hx hb hG.1 (za_aq (f := f) g1) 0 5 rfl rfl (zI_in h0 h1 g3) hd ?_
    rw [ex]
    exact hk
theorem zI_byte {x : Int} (h : -128 ≤ x ∧ x ≤ 127) : (zI x).toInt8.toInt32 = zI x := by
  have hr : zR x := by constructor <;> omega
  refine Int32.toInt_inj.mp ?_
  rw [zI_toInt hr, Int8.toInt_toInt32, Int32.toInt_toInt8, zI_toInt hr]
  exact Int.bmod_eq_of_le (by omega) (by omega)
theorem zr_iast (hO : zO G K own cc nL ret hh fr lo nm Q0) {n a : Nat} {f : Nat → Int} {x y : Int} (hd : decode cc pc = .ok (.iastore, 1)) (hc : h a = some (zna 0 n f)) (h0 : 0 ≤ x) (h1 : x < n) (ry : zR y)
    (kk : zV G K bc bs (zup h a (zna 0 n (zset f x.toNat y))) (pc + 1) L rest) : zV G K bc bs h pc L (zi y :: zi x :: zp a :: rest) := by
  obtain ⟨p, e, R, s, m, args, below, meth, c, Q, mc, ms⟩ := K
  obtain ⟨⟨hx, hb, hml, hown, hts⟩, hG, hr, hlk, htb, ⟨hRf, hRl, hRc, hRs⟩, hnm, rfl⟩ := hO
  intro H locs cells slots ls hH hlo h3 h2 hL
  obtain ⟨ha, g1, g2, g3, g4⟩ := hH.2.2 a _ hc
  have ex : (zI x).toNatClampNeg = x.toNat := zI_cl (by constructor <;> omega)
  refine W.iast hx hb g1 ((hG.1.2 0 _ rfl).1 n _) (fun q => by cases q) (by show ¬ (zI x < 0 ∨ (arrV _ _ _).slots.size ≤ _); rw [arrV_size]; exact zI_in h0 h1 g3) rfl rfl hd fun H1 e z oq => ?_
  refine kk H1 _ cells slots ls (hH.put hc ⟨?_, g2, g3, fun j hj => ?_⟩ z oq) (fun q hq => ?_) h3 h2 hL
  · rw [e, arrV_store]
    congr 2
    funext q
    by_cases hq : q = x.toNat
    · rw [ex, hq, zset_s]; simp [updV, zE]
    · rw [ex, zset_n hq]; simp [updV, hq]
  · by_cases hq : j = x.toNat
    · rw [hq, zset_s]; exact ry
    · rw [zset_n hq]; exact g4 j hj
  · rcases List.mem_append.mp hq with h9 | h9
    · exact hlo q h9
    · rw [List.mem_singleton.mp h9]; exact ha
theorem zr_bast (hO : zO G K own cc nL ret hh fr lo nm Q0) {n a : Nat} {f : Nat → Int} {x y : Int} (hd : decode cc pc = .ok (.bastore, 1)) (hc : h a = some (zna 1 n f)) (h0 : 0 ≤ x) (h1 : x < n) (ry : -128 ≤ y ∧ y ≤ 127)
    (kk : zV G K bc bs (zup h a (zna 1 n (zset f x.toNat y))) (pc + 1) L rest) : zV G K bc bs h pc L (zi y :: zi x :: zp a :: rest) := by
  obtain ⟨p, e, R, s, m, args, below, meth, c, Q, mc, ms⟩ := K
  obtain ⟨⟨hx, hb, hml, hown, hts⟩, hG, hr, hlk, htb, ⟨hRf, hRl, hRc, hRs⟩, hnm, rfl⟩ := hO
  intro H locs cells slots ls hH hlo h3 h2 hL
  obtain ⟨ha, g1, g2, g3, g4⟩ := hH.2.2 a _ hc
  have ex : (zI x).toNatClampNeg = x.toNat := zI_cl (by constructor <;> omega)
  have eb : narrow .byte (.int (zI y)) = .int (zI y) := by rw [← zI_byte ry]; exact pk_nb (zI y)
  refine W.bast hx hb g1 ((hG.1.2 1 _ rfl).1 n _) (fun q => by cases q) (by show ¬ (zI x < 0 ∨ (arrV _ _ _).slots.size ≤ _); rw [arrV_size]; exact zI_in h0 h1 g3) rfl rfl hd fun H1 e z oq => ?_
  refine kk H1 _ cells slots ls (hH.put hc ⟨?_, g2, g3, fun j hj => ?_⟩ z oq) (fun q hq => ?_) h3 h2 hL
  · rw [e, arrV_store, eb]
    congr 2
    funext q
    by_cases hq : q = x.toNat
    · rw [ex, hq, zset_s]; simp [updV, zE]
    · rw [ex, zset_n hq]; simp [updV, hq]
  · by_cases hq : j = x.toNat
    · rw [hq, zset_s]; exact ry
    · rw [zset_n hq]; exact g4 j hj
  · rcases List.mem_append.mp hq with h9 | h9
    · exact hlo q h9
    · rw [List.mem_singleton.mp h9]; exact ha
theorem zr_zast (hO : zO G K own cc nL ret hh fr lo nm Q0) {n a : Nat} {f : Nat → Int} {x y : Int} (hd : decode cc pc = .ok (.bastore, 1)) (hc : h a = some (zna 2 n f)) (h0 : 0 ≤ x) (h1 : x < n) (ry : y = 0 ∨ y = 1)
    (kk : zV G K bc bs (zup h a (zna 2 n (zset f x.toNat y))) (pc + 1) L rest) : zV G K bc bs h pc L (zi y :: zi x :: zp a :: rest) := by
  obtain ⟨p, e, R, s, m, args, below, meth, c, Q, mc, ms⟩ := K
  obtain ⟨⟨hx, hb, hml, hown, hts⟩, hG, hr, hlk, htb, ⟨hRf, hRl, hRc, hRs⟩, hnm, rfl⟩ := hO
  intro H locs cells slots ls hH hlo h3 h2 hL
  obtain ⟨ha, g1, g2, g3, g4⟩ := hH.2.2 a _ hc
  have ex : (zI x).toNatClampNeg = x.toNat := zI_cl (by constructor <;> omega)
  have eb : narrow .boolean (.int (zI y)) = .int (zI y) := (zfit_z ry).1
  refine W.zast hx hb g1 ((hG.1.2 2 _ rfl).1 n _) (fun q => by cases q) (by show ¬ (zI x < 0 ∨ (arrV _ _ _).slots.size ≤ _); rw [arrV_size]; exact zI_in h0 h1 g3) rfl rfl hd fun H1 e z oq => ?_
  refine kk H1 _ cells slots ls (hH.put hc ⟨?_, g2, g3, fun j hj => ?_⟩ z oq) (fun q hq => ?_) h3 h2 hL
  · rw [e, arrV_store, eb]
    congr 2
    funext q
    by_cases hq : q = x.toNat
    · rw [ex, hq, zset_s]; simp [updV, zE]
    · rw [ex, zset_n hq]; simp [updV, hq]
  · by_cases hq : j = x.toNat
    · rw [hq, zset_s]; exact ry
    · rw [zset_n hq]; exact g4 j hj
  · rcases List.mem_append.mp hq with h9 | h9
    · exact hlo q h9
    · rw [List.mem_singleton.mp h9]; exact ha
theorem zr_last (hO : zO G K own cc nL ret hh fr lo nm Q0) {n a : Nat} {f : Nat → Int} {x y : Int} (hd : decode cc pc = .ok (.lastore, 1)) (hc : h a = some (zna 3 n f)) (h0 : 0 ≤ x) (h1 : x < n) (ry : -9223372036854775808 ≤ y ∧ y ≤ 9223372036854775807)
    (kk : zV G K bc bs (zup h a (zna 3 n (zset f x.toNat y))) (pc + 1) L rest) : zV G K bc bs h pc L (zl y :: zi x :: zp a :: rest) := by
  obtain ⟨p, e, R, s, m, args, below, meth, c, Q, mc, ms⟩ := K
  obtain ⟨⟨hx, hb, hml, hown, hts⟩, hG, hr, hlk, htb, ⟨hRf, hRl, hRc, hRs⟩, hnm, rfl⟩ := hO
  intro H locs cells slots ls hH hlo h3 h2 hL
  obtain ⟨ha, g1, g2, g3, g4⟩ := hH.2.2 a _ hc
  have ex : (zI x).toNatClampNeg = x.toNat := zI_cl (by constructor <;> omega)
  refine W.last hx hb g1 ((hG.1.2 3 _ rfl).1 n _) (fun q => by cases q) (by show ¬ (zI x < 0 ∨ (arrV _ _ _).slots.size ≤ _); rw [arrV_size]; exact zI_in h0 h1 g3) rfl rfl hd fun H1 e z oq => ?_
  refine kk H1 _ cells slots ls (hH.put hc ⟨?_, g2, g3, fun j hj => ?_⟩ z oq) (fun q hq => ?_) h3 h2 hL
  · rw [e, arrV_store]
    congr 2
    funext q
    by_cases hq : q = x.toNat
    · rw [ex, hq, zset_s]; simp [updV, zE]
    · rw [ex, zset_n hq]; simp [updV, hq]
  · by_cases hq : j = x.toNat
    · rw [hq, zset_s]; exact ry
    · rw [zset_n hq]; exact g4 j hj
  · rcases List.mem_append.mp hq with h9 | h9
    · exact hlo q h9
    · rw [List.mem_singleton.mp h9]; exact ha
/-- new cells -/
theorem zr_new (hO : zO G K own cc nL ret hh fr lo nm Q0) {ci : Nat} {C : String} {T : u_T} {N : Nat} {ty : Nat → FieldType} (hC : zCl ci C T N ty) {i : Nat} {fs : List zW} (hd : decode cc pc = .ok (.new i, 3)) (hl : Cond.classLink own i C ∈ lw_all) (hin : Cond.instantiable C N ∈ lw_all) (hi : Cond.initialized C ∈ lw_all) (hz : ∀ j, j < N → zsm (ty j) = true) (hfs : (List.range N).map (fun j => zdv (ty j)) = fs) {b2 s2 : Nat} (hbc : b2 + 1 ≤ bc) (hbs : s2 + N ≤ bs)
    (kk : ∀ q : Nat, zrd G h q = none → zV G K b2 s2 (zup h q (zob ci fs)) (pc + 3) L (zp q :: rest)) : zV G K bc bs h pc L rest := by
  obtain ⟨p, e, R, s, m, args, below, meth, c, Q, mc, ms⟩ := K
  obtain ⟨⟨hx, hb, hml, hown, hts⟩, hG, hr, hlk, htb, ⟨hRf, hRl, hRc, hRs⟩, hnm, rfl⟩ := hO
  intro H locs cells slots ls hH hlo h1 h2 hL
  obtain ⟨hCl, hws, hty, hnms⟩ := hC
  have hKn := hG.1.1 ci _ hCl
  have hfl : fs.length = N := by rw [← hfs]; simp
  refine W.newcK hx hb hown (hts _ hl) (hts _ hin) (hts _ hi) rfl hd (by omega) (by omega) hKn.2.1 rfl fun H1 kC hkC e1 z1 o1 => ?_
  refine kk H.size (zrd_fresh hG hH) H1 locs (cells + 1) (slots + N) ls (hH.new ⟨⟨_, hCl, hfl, (u_born ty hts hws hKn hkC e1 hty).to fun j hj => ?_⟩, fun e he => ?_⟩ z1 o1) hlo (by omega) (by omega) hL
  · rw [zdv_eq (hz j hj)]
    subst hfs
    simp [vp_V, List.getD, hj]
  · subst hfs
    obtain ⟨j, hj, hje⟩ := List.mem_map.mp he
    have : e = 0 := by
      unfold zdv at hje
      split at hje <;> first | cases hje; rfl | cases hje
    rw [this]
    constructor <;> omega
theorem zr_newa (hO : zO G K own cc nL ret hh fr lo nm Q0) {atype : ArrayType} {n : Nat} (t : Nat) (ht : t ≤ 3) (hat : newarray.typeOf atype = zT t) (harr : Cond.arrayClass (zT t) ∈ lw_all) (hd : decode cc pc = .ok (.newarray atype, 2)) (hn : n ≤ 60000000) {b2 s2 : Nat} (hbc : b2 + 1 ≤ bc) (hbs : s2 + n ≤ bs)
    (kk : ∀ q : Nat, zrd G h q = none → zV G K b2 s2 (zup h q (zna t n (fun _ => 0))) (pc + 2) L (zp q :: rest)) : zV G K bc bs h pc L (zi n :: rest) := by
  obtain ⟨p, e, R, s, m, args, below, meth, c, Q, mc, ms⟩ := K
  obtain ⟨⟨hx, hb, hml, hown, hts⟩, hG, hr, hlk, htb, ⟨hRf, hRl, hRc, hRs⟩, hnm, rfl⟩ := hO
  intro H locs cells slots ls hH hlo h1 h2 hL
  have hr9 : zR (n : Int) := by constructor <;> omega
  have hnn : ¬ zI (n : Int) < 0 := by
    rw [← zI_0, zI_lt hr9 (by constructor <;> omega)]
    omega
  have hcl : (zI (n : Int)).toNatClampNeg = n := by rw [zI_cl hr9]; rfl
  have hcb : n * componentBytes (newarray.typeOf atype) ≤ 536870912 := by
    have : componentBytes (newarray.typeOf atype) ≤ 8 := by cases atype <;> decide
    exact Nat.le_trans (Nat.mul_le_mul_left n this) (by omega)
  refine va_newaK (N := n) hx hb (by rw [hat]; exact hts _ harr) rfl hd rfl hnn hcl hcb (by omega) (by omega) rfl fun H1 cA e1 z1 o1 hAr hNm => ?_
  have hra := (hG.1.2 t _ (zty_at (zGA G) (show t ≤ 5 by omega))).2
  have hcA : cA = zGA G t := by
    rw [hat] at hNm
    rcases (show t = 0 ∨ t = 1 ∨ t = 2 ∨ t = 3 by omega) with rfl | rfl | rfl | rfl <;> exact Option.some.inj (hNm.symm.trans hra)
  refine kk H.size (zrd_fresh hG hH) H1 locs (cells + 1) (slots + n) ls (hH.new ⟨?_, ht, by omega, fun j hj => ?_⟩ z1 o1) hlo (by omega) (by omega) hL
  · rw [e1, hcA, hat]
    rcases (show t = 0 ∨ t = 1 ∨ t = 2 ∨ t = 3 by omega) with rfl | rfl | rfl | rfl <;> rfl
  · rcases (show t = 0 ∨ t = 1 ∨ t = 2 ∨ t = 3 by omega) with rfl | rfl | rfl | rfl
    · show zR 0
      constructor <;> omega
    · show (-128 : Int) ≤ 0 ∧ (0 : Int) ≤ 127
      decide
    · exact Or.inl rfl
    · show (-9223372036854775808 : Int) ≤ 0 ∧ (0 : Int) ≤ 9223372036854775807
      decide
/-- Object.<init> -/
theorem zr_objInit (hO : zO G K own cc nL ret hh fr lo nm Q0) {i a : Nat} (hd : decode cc pc = .ok (.invokespecial i, 3)) (hl : Cond.methodLink own i Lib.objectInit ∈ lw_all) (hin : Cond.instanceMethod Lib.objectInit ∈ lw_all) (hcd : Cond.code Lib.objectInit ⟨#[0xb1]⟩ 1 none ∈ lw_all) (hf : 1 ≤ fr) (hlo9 : 20 ≤ lo) (hst : (rest.map zcat).sum ≤ 8)
    (kk : zV G K bc bs h (pc + 3) L rest) : zV G K bc bs h pc L (zp a :: rest) := by
  obtain ⟨p, e, R, s, m, args, below, meth, c, Q, mc, ms⟩ := K
  obtain ⟨⟨hx, hb, hml, hown, hts⟩, hG, hr, hlk, htb, ⟨hRf, hRl, hRc, hRs⟩, hnm, rfl⟩ := hO
  intro H locs cells slots ls hH hlo h1 h2 hL
  have hm := lv_room (pc := pc) (ls := ls) (m := m) (rest := rest.map zw) (st := rest.map zw) (by rw [zcat_sum]; exact hst)
  refine W.objInit hx hb hown (hts _ hl) (hts _ hin) (hts _ hcd) rfl hL.1 (rest := rest.map zw) rfl hd (by omega) ?_ (kk H locs cells slots ls hH hlo h1 h2 hL)
  have e9 : (F0 m pc ls (List.map zw (zp a :: rest))).monitorRoom = (F0 m pc ls (rest.map zw)).monitorRoom := rfl
  rw [e9]
  omega
/-- CALLS -/
def zYn (y : MethodName) (n : Nat) : Prop := y.cls ≠ "java/lang/invoke/MethodHandle" ∧ y.cls ≠ "java/lang/invoke/VarHandle" ∧ (parseMethodDescriptor y.desc).map (fun d => d.parameters.length) = some n
theorem zW_run {p : Program} {l : Launch} {e : Env} {R : Room} {s : State} {m : MethodId} {args : Array Value} {below : List Frame} {meth : Method} {c : Code} {H : Heap} {locs : List Loc} {cells slots mc' ms' : Nat} {Q : State → Prop} {ls : Array Slot} {st0 : List Value} {av : Array Value} {Q' : zRs → zHp → Prop}
    (hr : vx_Run p l e R s m args below meth c H locs cells slots mc' ms' (F0 m pc ls st0) (rest.map zw) (zQc G Q' av) (zXC G Q') (fun q => zG0 G ≤ q)) (hlo : ∀ q ∈ locs, zG0 G ≤ q.base)
    (kk : ∀ (v : Option zW) (h' : zHp) (H' : Heap) (locs' : List Loc), zH G h' H' → (∀ q ∈ locs', zG0 G ≤ q.base) → Q' (.inl v) h' → W p l e R s m args below meth c H' locs' (cells + mc') (slots + ms') Q (F0 m (pc + 3) ls ((v.toList ++ rest).map zw)))
    (kx : ∀ (E : String) (q : Nat) (h' : zHp) (H' : Heap) (locs' : List Loc) (ce : Cell), zH G h' H' → (∀ q ∈ locs', zG0 G ≤ q.base) → Q' (.inr (E, q)) h' → H'[q]? = some ce → ce.vm = .none → s.vm.findClass E = some ce.cls → vx_W p l e R s m args below meth c H' locs' (cells + mc') (slots + ms') Q (F0 m pc ls (rest.map zw)) q) :
    W p l e R s m args below meth c H locs cells slots Q (F0 m pc ls st0) := by
  intro T hT X
  rcases hr T hT X with ⟨v, st₀, t, T', L, h0, X', hL, e1, e2, ⟨v', h', hv, hh', hq⟩, st⟩ | ⟨q, st₀, t, T', L, E, ce, h0, X', hL, e1, e2, ⟨h', hh', hq⟩, hce, hcv, hcl, st⟩
  · cases hv
    obtain ⟨t2, a1, b1⟩ := kk v' h' T'.heap (locs ++ L) (by rw [e1]; exact hh') (fun z hz => by
      rcases List.mem_append.mp hz with h9 | h9
      · exact hlo z h9
      · exact hL z h9) hq T' rfl X'
    refine ⟨t2, st t2 ?_, b1⟩
    cases v' <;> exact a1
  · obtain ⟨t2, a1, b1⟩ := kx E q h' T'.heap (locs ++ L) ce (by rw [e1]; exact hh') (fun z hz => by
      rcases List.mem_append.mp hz with h9 | h9
      · exact hlo z h9
      · exact hL z h9) hq (by rw [e1]; exact hce) hcv hcl T' rfl X'
    exact ⟨t2, st.trans a1, b1⟩
variable {y : MethodName} {cc' : ByteArray} {nL' fr' lo' mc' ms' : Nat} {ret' : Option FieldType} {As : List zW} {Q' : zRs → zHp → Prop}
theorem zr_invS (hO : zO G K own cc nL ret hh fr lo nm Q0) {i n : Nat} {st : List zW} (hM : zC G y cc' nL' ret' fr' lo' mc' ms' As h Q') (hd : decode cc pc = .ok (.invokestatic i, 3)) (h1 : Cond.methodLink own i y ∈ lw_all) (h2 : Cond.static y ∈ lw_all) (h3 : Cond.initialized y.cls ∈ lw_all) (h4 : Cond.code y cc' nL' ret' ∈ lw_all) (hy : zYn y n) (hn : As.length = n) (hst : As.reverse ++ rest = st) (hfr : fr' + 1 ≤ fr ∧ 8 + (nL' + 11) + lo' ≤ lo) (hrs : (rest.map zcat).sum ≤ 8) {b2 s2 : Nat} (hbc : b2 + mc' ≤ bc) (hbs : s2 + ms' ≤ bs)
    (kx : ∀ (E : String) (q : Nat) (h' : zHp), Q' (.inr (E, q)) h' → zX G K b2 s2 h' pc L E q) (kk : ∀ (v : Option zW) (h' : zHp), Q' (.inl v) h' → zV G K b2 s2 h' (pc + 3) L (v.toList ++ rest)) : zV G K bc bs h pc L st := by
  obtain ⟨p, e, R, s, m, args, below, meth, c, Q, mc, ms⟩ := K
  obtain ⟨⟨hx, hb, hml, hown, hts⟩, hG, hr, hlk, htb, ⟨hRf, hRl, hRc, hRs⟩, hnm, rfl⟩ := hO
  intro H locs cells slots ls hH hlo g1 g2 hL
  refine zW_run (Q' := Q') (vx_runS (As := As.map zw) (n := n) ⟨hx, hb, rfl, hown, hts⟩ hM (va_cwS n hts (lw_S h1 h2 h3 h4) rfl rfl rfl hy (by rw [hRf, hRl]; exact hfr)) ⟨zbl, fun U hU hW => ⟨rfl, hG.warm hW, by rw [hU]; exact hH⟩⟩ rfl (by rw [List.length_map]; exact hn) hL.1 (by subst hst; show List.map zw (As.reverse ++ rest) = _; rw [List.map_append, List.map_reverse]) (lv_room (by rw [zcat_sum]; exact hrs)) hd ⟨by omega, by omega⟩) hlo
    (fun v h' H' locs' q1 q2 q3 => kk v h' q3 H' locs' (cells + mc') (slots + ms') ls q1 q2 (by omega) (by omega) hL)
    (fun E q h' H' locs' ce q1 q2 q3 q4 q5 q6 => kx E q h' q3 H' locs' (cells + mc') (slots + ms') ls _ ce q1 q2 (by omega) (by omega) hL q4 q5 q6)
theorem zr_invV (hO : zO G K own cc nL ret hh fr lo nm Q0) {ci : Nat} {C : String} {T : u_T} {N : Nat} {ty : Nat → FieldType} (hC : zCl ci C T N ty) {i n b : Nat} {fs st : List zW} (hM : zC G y cc' nL' ret' fr' lo' mc' ms' (zp b :: As) h Q') (hd : decode cc pc = .ok (.invokevirtual i, 3)) (hcell : zrd G h b = some (zob ci fs)) (h1 : Cond.methodLink own i y ∈ lw_all) (h2 : Cond.instanceMethod y ∈ lw_all) (h3 : Cond.selects C y y ∈ lw_all) (h4 : Cond.initialized C ∈ lw_all) (h5 : Cond.code y cc' nL' ret' ∈ lw_all) (hyc : y.cls = C) (hy : zYn y n) (hn : As.length = n) (hst : As.reverse ++ zp b :: rest = st) (hfr : fr' + 1 ≤ fr ∧ 8 + (nL' + 11) + lo' ≤ lo) (hrs : (rest.map zcat).sum ≤ 8) {b2 s2 : Nat} (hbc : b2 + mc' ≤ bc) (hbs : s2 + ms' ≤ bs)
    (kx : ∀ (E : String) (q : Nat) (h' : zHp), Q' (.inr (E, q)) h' → zX G K b2 s2 h' pc L E q) (kk : ∀ (v : Option zW) (h' : zHp), Q' (.inl v) h' → zV G K b2 s2 h' (pc + 3) L (v.toList ++ rest)) : zV G K bc bs h pc L st := by
  obtain ⟨p, e, R, s, m, args, below, meth, c, Q, mc, ms⟩ := K
  obtain ⟨⟨hx, hb, hml, hown, hts⟩, hG, hr, hlk, htb, ⟨hRf, hRl, hRc, hRs⟩, hnm, rfl⟩ := hO
  intro H locs cells slots ls hH hlo g1 g2 hL
  obtain ⟨⟨r, e1, e2, e3⟩, e4⟩ := zrd_at hG hH hcell
  refine zW_run (Q' := Q') (vx_runV (C := C) (b := b) (As := As.map zw) (n := n) ⟨hx, hb, rfl, hown, hts⟩ hM (cwV n hts (lw_V h1 h2 h3 h4 h5) rfl rfl rfl ⟨hyc, hy⟩ (by rw [hRf, hRl]; exact hfr)) ⟨zbl, va_recv hG.1 (za_ob ⟨r, e1, e3⟩) hC.1 (q0 := 0) rfl, fun U hU hW => ⟨rfl, hG.warm hW, by rw [hU]; exact hH⟩⟩ rfl (by rw [List.length_map]; exact hn) hL.1 (by subst hst; show List.map zw (As.reverse ++ zp b :: rest) = _; rw [List.map_append, List.map_reverse]; rfl) (lv_room (by rw [zcat_sum]; exact hrs)) hd ⟨by omega, by omega⟩) hlo
    (fun v h' H' locs' q1 q2 q3 => kk v h' q3 H' locs' (cells + mc') (slots + ms') ls q1 q2 (by omega) (by omega) hL)
    (fun E q h' H' locs' ce q1 q2 q3 q4 q5 q6 => kx E q h' q3 H' locs' (cells + mc') (slots + ms') ls _ ce q1 q2 (by omega) (by omega) hL q4 q5 q6)
theorem zr_invI (hO : zO G K own cc nL ret hh fr lo nm Q0) {i n b : Nat} {st : List zW} (hM : zC G y cc' nL' none fr' lo' mc' ms' (zp b :: As) h Q') (hd : decode cc pc = .ok (.invokespecial i, 3)) (h1 : Cond.methodLink own i y ∈ lw_all) (h2 : Cond.instanceMethod y ∈ lw_all) (h4 : Cond.initialized y.cls ∈ lw_all) (h5 : Cond.code y cc' nL' none ∈ lw_all) (hy1 : y.name = "<init>") (hy : zYn y n) (hn : As.length = n) (hst : As.reverse ++ zp b :: rest = st) (hfr : fr' + 1 ≤ fr ∧ 8 + (nL' + 11) + lo' ≤ lo) (hrs : (rest.map zcat).sum ≤ 8) {b2 s2 : Nat} (hbc : b2 + mc' ≤ bc) (hbs : s2 + ms' ≤ bs)
    (kx : ∀ (E : String) (q : Nat) (h' : zHp), Q' (.inr (E, q)) h' → zX G K b2 s2 h' pc L E q) (kk : ∀ (v : Option zW) (h' : zHp), Q' (.inl v) h' → zV G K b2 s2 h' (pc + 3) L (v.toList ++ rest)) : zV G K bc bs h pc L st := by
  obtain ⟨p, e, R, s, m, args, below, meth, c, Q, mc, ms⟩ := K
  obtain ⟨⟨hx, hb, hml, hown, hts⟩, hG, hr, hlk, htb, ⟨hRf, hRl, hRc, hRs⟩, hnm, rfl⟩ := hO
  intro H locs cells slots ls hH hlo g1 g2 hL
  refine zW_run (Q' := Q') (vx_runI (b := b) (As := As.map zw) (n := n) ⟨hx, hb, rfl, hown, hts⟩ hM (cwI n hts (lw_meth h5) rfl rfl rfl (hts _ h4) (hts _ h1) (hts _ h2) hy1 hy (by rw [hRf, hRl]; exact hfr)) ⟨zbl, fun U hU hW => ⟨rfl, hG.warm hW, by rw [hU]; exact hH⟩⟩ rfl (by rw [List.length_map]; exact hn) hL.1 (by subst hst; show List.map zw (As.reverse ++ zp b :: rest) = _; rw [List.map_append, List.map_reverse]; rfl) (lv_room (by rw [zcat_sum]; exact hrs)) hd ⟨by omega, by omega⟩) hlo
    (fun v h' H' locs' q1 q2 q3 => kk v h' q3 H' locs' (cells + mc') (slots + ms') ls q1 q2 (by omega) (by omega) hL)
    (fun E q h' H' locs' ce q1 q2 q3 q4 q5 q6 => kx E q h' q3 H' locs' (cells + mc') (slots + ms') ls _ ce q1 q2 (by omega) (by omega) hL q4 q5 q6)
end ZH
theorem zc_X3 : zCl 0 RX3 TX3 29 tyX3 := ⟨rfl, in_X3, tyX3_ok, nmX3⟩
theorem zc_X1 : zCl 1 RX1 TX1 8 tyX1 := ⟨rfl, in_X1, tyX1_ok, nmX1⟩
theorem zc_X2 : zCl 2 RX2 TX2 7 tyX2 := ⟨rfl, in_X2, tyX2_ok, nmX2⟩
theorem zc_X6 : zCl 3 RX6 TX6 5 tyX6 := ⟨rfl, in_X6, tyX6_ok, nmX6⟩
theorem zc_X7 : zCl 4 RX7 TX7 5 tyX7 := ⟨rfl, in_X7, tyX7_ok, nmX7⟩
theorem zc_X9 : zCl 5 RX9 TX9 6 tyX9 := ⟨rfl, in_X9, tyX9_ok, nmX9⟩
theorem zc_X10 : zCl 6 RX10 TX10 5 tyX10 := ⟨rfl, in_X10, tyX10_ok, nmX10⟩
theorem zc_X4 : zCl 7 RX4 TX4 4 tyX4 := ⟨rfl, in_X4, tyX4_ok, nmX4⟩
theorem zc_X5 : zCl 8 RX5 TX5 8 tyX5 := ⟨rfl, in_X5, tyX5_ok, nmX5⟩
theorem zc_X8 : zCl 9 RX8 TX8 4 tyX8 := ⟨rfl, in_X8, tyX8_ok, nmX8⟩
theorem zc_X11 : zCl 10 RX11 TX11 2 tyX11 := ⟨rfl, in_X11, tyX11_ok, nmX11⟩
theorem zc_X12 : zCl 11 RX12 TX12 1 tyX12 := ⟨rfl, in_X12, tyX12_ok, nmX12⟩
theorem zc_X13 : zCl 12 RX13 TX13 1 tyX13 := ⟨rfl, in_X13, tyX13_ok, nmX13⟩
theorem zc_X14 : zCl 13 RX14 TX14 2 tyX14 := ⟨rfl, in_X14, tyX14_ok, nmX14⟩
theorem zc_X15 : zCl 14 RX15 TX15 2 tyX15 := ⟨rfl, in_X15, tyX15_ok, nmX15⟩
theorem zc_X16 : zCl 15 RX16 TX16 2 tyX16 := ⟨rfl, in_X16, tyX16_ok, nmX16⟩
theorem zc_X17 : zCl 16 RX17 TX17 3 tyX17 := ⟨rfl, in_X17, tyX17_ok, nmX17⟩
theorem zc_X18 : zCl 17 RX18 TX18 2 tyX18 := ⟨rfl, in_X18, tyX18_ok, nmX18⟩
theorem zc_J2 : zCl 18 RJ2 TJ2 3 tyJ2 := ⟨rfl, in_J2, tyJ2_ok, nmJ2⟩
theorem zc_J4 : zCl 19 RJ4 TJ4 4 tyJ4 := ⟨rfl, in_J4, tyJ4_ok, nmJ4⟩
theorem zc_J23 : zCl 20 RJ23 TJ23 3 tyJ23 := ⟨rfl, in_J23, tyJ23_ok, nmJ23⟩
theorem zc_J5 : zCl 21 RJ5 TJ5 3 tyJ5 := ⟨rfl, in_J5, tyJ5_ok, nmJ5⟩
theorem zc_J7 : zCl 22 RJ7 TJ7 4 tyJ7 := ⟨rfl, in_J7, tyJ7_ok, nmJ7⟩
theorem zc_J8 : zCl 23 RJ8 TJ8 4 tyJ8 := ⟨rfl, in_J8, tyJ8_ok, nmJ8⟩
theorem zc_J18 : zCl 24 RJ18 TJ18 1 tyJ18 := ⟨rfl, in_J18, tyJ18_ok, nmJ18⟩
theorem zc_J28 : zCl 25 RJ28 TJ28 4 tyJ28 := ⟨rfl, in_J28, tyJ28_ok, nmJ28⟩
theorem zc_J31 : zCl 26 RJ31 TJ31 5 tyJ31 := ⟨rfl, in_J31, tyJ31_ok, nmJ31⟩
theorem zc_J32 : zCl 27 RJ32 TJ32 3 tyJ32 := ⟨rfl, in_J32, tyJ32_ok, nmJ32⟩
