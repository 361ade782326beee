/-! MORE ROWS: Math.min, Math.max -/
section ZMM
variable {G : zG} {K : zM} {own : String} {cc : ByteArray} {nL : Nat} {ret : Option FieldType} {hh : List (Nat × Nat × Nat × Nat)} {fr lo : Nat} {nm : String} {Q0 : zRs → zHp → Prop} {bc bs : Nat} {h : zHp} {pc : Nat} {L : List (Nat × zW)} {rest : List zW}
theorem zr_mmax (hO : zO G K own cc nL ret hh fr lo nm Q0) {a b : Int} {i : Nat} (ra : zR a) (rb : zR b) (hd : decode cc pc = .ok (.invokestatic i, 3)) (h1 : Cond.methodLink own i Lib.Math.max.name ∈ lw_all) (h2 : Cond.static Lib.Math.max.name ∈ lw_all) (h3 : Cond.initialized "java/lang/Math" ∈ lw_all) (h4 : Cond.code Lib.Math.max.name Lib.Math.max.code 2 (some .int) ∈ lw_all) (hf : 1 ≤ fr) (hl9 : 21 ≤ lo) (hrs : (rest.map zcat).sum ≤ 8)
    (k : zV G K bc bs h (pc + 3) L (zi (max a b) :: rest)) : zV G K bc bs h pc L (zi b :: zi a :: rest) := by
  obtain ⟨p, e, R, s, m, args, below, meth, c, Q, mc, ms⟩ := K
  obtain ⟨⟨hx, hb, hml, hown, hts⟩, hG, hr, hlk, htb, ⟨hRf, hRl, hRc, hRs⟩, hnm, rfl⟩ := hO
  intro H locs cells slots ls hH hlo g1 g2 hL
  refine va_mmax hx hb hL.1.symm hown (hts _ h1) (hts _ h2) (hts _ h3) (hts _ h4) (by omega) (by rw [zcat_sum]; omega) (by omega) (by omega) hd ?_
  have hk := k H locs cells slots ls hH hlo g1 g2 hL
  have e9 : (if zI a < zI b then zI b else zI a) = zI (max a b) := by
    by_cases q : a < b
    · rw [if_pos ((zI_lt ra rb).mpr q), Int.max_eq_right (by omega)]
    · rw [if_neg (fun z => q ((zI_lt ra rb).mp z)), Int.max_eq_left (by omega)]
  rw [e9]
  exact hk
theorem zr_mmin (hO : zO G K own cc nL ret hh fr lo nm Q0) {a b : Int} {i : Nat} (ra : zR a) (rb : zR b) (hd : decode cc pc = .ok (.invokestatic i, 3)) (h1 : Cond.methodLink own i Lib.Math.min.name ∈ lw_all) (h2 : Cond.static Lib.Math.min.name ∈ lw_all) (h3 : Cond.initialized "java/lang/Math" ∈ lw_all) (h4 : Cond.code Lib.Math.min.name Lib.Math.min.code 2 (some .int) ∈ lw_all) (hf : 1 ≤ fr) (hl9 : 21 ≤ lo) (hrs : (rest.map zcat).sum ≤ 8)
    (k : zV G K bc bs h (pc + 3) L (zi (min a b) :: rest)) : zV G K bc bs h pc L (zi b :: zi a :: rest) := by
  obtain ⟨p, e, R, s, m, args, below, meth, c, Q, mc, ms⟩ := K
  obtain ⟨⟨hx, hb, hml, hown, hts⟩, hG, hr, hlk, htb, ⟨hRf, hRl, hRc, hRs⟩, hnm, rfl⟩ := hO
  intro H locs cells slots ls hH hlo g1 g2 hL
  refine va_mmin hx hb hL.1.symm hown (hts _ h1) (hts _ h2) (hts _ h3) (hts _ h4) (by omega) (by rw [zcat_sum]; omega) (by omega) (by omega) hd ?_
  have hk := k H locs cells slots ls hH hlo g1 g2 hL
  have e9 : (if zI b < zI a then zI b else zI a) = zI (min a b) := by
    by_cases q : b < a
    · rw [if_pos ((zI_lt rb ra).mpr q), Int.min_eq_right (by omega)]
    · rw [if_neg (fun z => q ((zI_lt rb ra).mp z)), Int.min_eq_left (by omega)]
  rw [e9]
  exact hk
end ZMM
