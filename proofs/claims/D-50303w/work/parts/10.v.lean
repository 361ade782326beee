/-! THE V LAYER. A method's walk over an abstract heap (a function of addresses), ints as integers. zV: the judgement; zC: a contract; zr_..: a row an instruction. -/
def zI (e : Int) : Int32 := Int32.ofInt e
abbrev zR (e : Int) : Prop := -2147483648 ≤ e ∧ e ≤ 2147483647
theorem zI_toInt {e : Int} (h : zR e) : (zI e).toInt = e := by
  obtain ⟨h1, h2⟩ := h
  exact Int32.toInt_ofInt_of_le (by omega) (by omega)
theorem zI_of (x : Int32) : zI x.toInt = x := Int32.ofInt_toInt x
theorem zR_toInt (x : Int32) : zR x.toInt := by
  have h1 := Int32.le_toInt x
  have h2 := Int32.toInt_lt x
  constructor <;> omega
theorem zI_add (a b : Int) : zI a + zI b = zI (a + b) := (Int32.ofInt_add a b).symm
theorem zI_sub (a b : Int) : zI a - zI b = zI (a - b) := (Int32.ofInt_sub a b).symm
theorem zI_mul (a b : Int) : zI a * zI b = zI (a * b) := (Int32.ofInt_mul a b).symm
theorem zI_neg (a : Int) : -zI a = zI (-a) := (Int32.ofInt_neg a).symm
theorem zI_lt {a b : Int} (ha : zR a) (hb : zR b) : zI a < zI b ↔ a < b := by
  rw [Int32.lt_iff_toInt_lt, zI_toInt ha, zI_toInt hb]
theorem zI_le {a b : Int} (ha : zR a) (hb : zR b) : zI a ≤ zI b ↔ a ≤ b := by
  rw [Int32.le_iff_toInt_le, zI_toInt ha, zI_toInt hb]
theorem zI_eq {a b : Int} (ha : zR a) (hb : zR b) : zI a = zI b ↔ a = b :=
  ⟨fun h => by have h1 := congrArg Int32.toInt h; rwa [zI_toInt ha, zI_toInt hb] at h1, fun h => by rw [h]⟩
theorem zI_0 : zI 0 = 0 := rfl
theorem zI_cl {e : Int} (h : zR e) : (zI e).toNatClampNeg = e.toNat := by
  have h1 := zI_toInt h
  show (zI e).toInt.toNat = e.toNat
  rw [h1]
theorem zI_in {e : Int} {n : Nat} (h0 : 0 ≤ e) (h1 : e < n) (hn : n ≤ 2147483647) : vp_in (zI e) n := by
  have hr : zR e := by constructor <;> omega
  unfold vp_in
  rintro (h | h)
  · rw [← zI_0, zI_lt hr (by constructor <;> omega)] at h
    omega
  · rw [zI_cl hr] at h
    omega
theorem zI_nat (n : Nat) : Int32.ofNat n = zI (n : Int) := (Int32.ofInt_eq_ofNat).symm
/-- values: an int, a reference or null, a long, a float, a double -/
abbrev zW : Type := Int ⊕ Option Nat ⊕ Int ⊕ UInt32 ⊕ UInt64
abbrev zi (e : Int) : zW := Sum.inl e
abbrev zq (r : Option Nat) : zW := Sum.inr (Sum.inl r)
abbrev zp (a : Nat) : zW := zq (some a)
abbrev zn : zW := zq none
abbrev zl (e : Int) : zW := Sum.inr (Sum.inr (Sum.inl e))
abbrev zf (x : UInt32) : zW := Sum.inr (Sum.inr (Sum.inr (Sum.inl x)))
abbrev zd (x : UInt64) : zW := Sum.inr (Sum.inr (Sum.inr (Sum.inr x)))
def zw (v : zW) : Value := match v with
  | .inl e => .int (zI e)
  | .inr (.inl r) => va_rf r
  | .inr (.inr (.inl e)) => .long (Int64.ofInt e)
  | .inr (.inr (.inr (.inl x))) => .float x
  | .inr (.inr (.inr (.inr x))) => .double x
def zcat (v : zW) : Nat := match v with
  | .inl _ => 1
  | .inr (.inl _) => 1
  | .inr (.inr (.inl _)) => 2
  | .inr (.inr (.inr (.inl _))) => 1
  | .inr (.inr (.inr (.inr _))) => 2
theorem zcat_eq (v : zW) : (zw v).category = zcat v := by
  rcases v with e | r | e | x | x
  · rfl
  · cases r <;> rfl
  · rfl
  · rfl
  · rfl
theorem zcat_sum (st : List zW) : ((st.map zw).map fun v => v.category).sum = (st.map zcat).sum := by
  rw [List.map_map]
  congr 1
  exact List.map_congr_left fun v _ => zcat_eq v
/-- cells: an object (its class's number, its fields) or an array (its type's number, its length, its contents) -/
abbrev zK : Type := (Nat × List zW) ⊕ (Nat × Nat × ((Nat → Int) ⊕ (Nat → Option Nat)))
abbrev zob (ci : Nat) (fs : List zW) : zK := Sum.inl (ci, fs)
abbrev zna (t n : Nat) (f : Nat → Int) : zK := Sum.inr (t, n, Sum.inl f)
abbrev zqa (t n : Nat) (f : Nat → Option Nat) : zK := Sum.inr (t, n, Sum.inr f)
abbrev zHp : Type := Nat → Option zK
def zT (t : Nat) : FieldType := match t with
  | 0 => .int
  | 1 => .byte
  | 2 => .boolean
  | 3 => .long
  | 4 => .object "java/lang/Object"
  | _ => .object "FoldLister$Page"
def zRg (t : Nat) (e : Int) : Prop := match t with
  | 0 => zR e
  | 1 => -128 ≤ e ∧ e ≤ 127
  | 2 => e = 0 ∨ e = 1
  | _ => -9223372036854775808 ≤ e ∧ e ≤ 9223372036854775807
def zE (t : Nat) (e : Int) : Value := match t with
  | 3 => .long (Int64.ofInt e)
  | _ => .int (zI e)
def zcl : List vw_C := [(RX3, TX3, 29), (RX1, TX1, 8), (RX2, TX2, 7), (RX6, TX6, 5), (RX7, TX7, 5), (RX9, TX9, 6), (RX10, TX10, 5), (RX4, TX4, 4), (RX5, TX5, 8), (RX8, TX8, 4), (RX11, TX11, 2), (RX12, TX12, 1), (RX13, TX13, 1), (RX14, TX14, 2), (RX15, TX15, 2), (RX16, TX16, 2), (RX17, TX17, 3), (RX18, TX18, 2), (RJ2, TJ2, 3), (RJ4, TJ4, 4), (RJ23, TJ23, 3), (RJ5, TJ5, 3), (RJ7, TJ7, 4), (RJ8, TJ8, 4), (RJ18, TJ18, 1), (RJ28, TJ28, 4), (RJ31, TJ31, 5), (RJ32, TJ32, 3)]
def zty (dA : Nat → ClassId) : List (ClassId × FieldType) := [(dA 0, .int), (dA 1, .byte), (dA 2, .boolean), (dA 3, .long), (dA 4, .object "java/lang/Object"), (dA 5, .object "FoldLister$Page")]
theorem zty_at (dA : Nat → ClassId) {t : Nat} (ht : t ≤ 5) : (zty dA)[t]? = some (dA t, zT t) := by
  rcases (show t = 0 ∨ t = 1 ∨ t = 2 ∨ t = 3 ∨ t = 4 ∨ t = 5 by omega) with rfl | rfl | rfl | rfl | rfl | rfl <;> rfl
def zAt (D : va_G) (dA : Nat → ClassId) (a : Nat) (c : zK) (H : Heap) : Prop := match c with
  | .inl (ci, fs) => (∃ r : vw_C, zcl[ci]? = some r ∧ fs.length = r.2.2 ∧ t_OB a (D.1 ci) r.2.2 (D.2 ci) H (vp_V (fs.map zw))) ∧ ∀ e : Int, Sum.inl e ∈ fs → zR e
  | .inr (t, n, .inl f) => H[a]? = some (arrV (dA t) n (fun j => zE t (f j))) ∧ t ≤ 3 ∧ n ≤ 2147483647 ∧ ∀ j, j < n → zRg t (f j)
  | .inr (t, n, .inr f) => H[a]? = some (arrV (dA t) n (fun j => va_rf (f j))) ∧ (t = 4 ∨ t = 5) ∧ n ≤ 2147483647
theorem zAt.kept {D : va_G} {dA : Nat → ClassId} {a : Nat} {c : zK} {H H1 : Heap} (h : zAt D dA a c H) (hq : H1[a]? = H[a]?) : zAt D dA a c H1 := by
  rcases c with ⟨ci, fs⟩ | ⟨t, n, f | f⟩
  · obtain ⟨⟨r, h1, h2, h3⟩, h4⟩ := h
    exact ⟨⟨r, h1, h2, h3.kept hq⟩, h4⟩
  · exact ⟨hq.trans h.1, h.2⟩
  · exact ⟨hq.trans h.1, h.2⟩
theorem zAt.lt {D : va_G} {dA : Nat → ClassId} {a : Nat} {c : zK} {H : Heap} (h : zAt D dA a c H) : a < H.size := by
  rcases c with ⟨ci, fs⟩ | ⟨t, n, f | f⟩
  · obtain ⟨⟨r, h1, h2, cell, h3, -⟩, -⟩ := h
    exact (Array.getElem?_eq_some_iff.mp h3).1
  · exact (Array.getElem?_eq_some_iff.mp h.1).1
  · exact (Array.getElem?_eq_some_iff.mp h.1).1
/-- what is fixed in a run: class ids and slots, array classes, where the run's own cells begin, the heap below, its cells, statics' values, the launch -/
abbrev zG : Type := va_G × (Nat → ClassId) × Nat × Heap × zHp × (Nat → zW) × Launch
abbrev zGD (G : zG) : va_G := G.1
abbrev zGA (G : zG) : Nat → ClassId := G.2.1
abbrev zG0 (G : zG) : Nat := G.2.2.1
abbrev zGH (G : zG) : Heap := G.2.2.2.1
abbrev zGo (G : zG) : zHp := G.2.2.2.2.1
abbrev zGs (G : zG) : Nat → zW := G.2.2.2.2.2.1
abbrev zGl (G : zG) : Launch := G.2.2.2.2.2.2
def zH (G : zG) (h : zHp) (H : Heap) : Prop := zG0 G ≤ H.size ∧ (∀ q : Nat, q < zG0 G → H[q]? = (zGH G)[q]?) ∧ ∀ (a : Nat) (c : zK), h a = some c → zG0 G ≤ a ∧ zAt (zGD G) (zGA G) a c H
def zrd (G : zG) (h : zHp) (a : Nat) : Option zK := match h a with
  | some c => some c
  | none => zGo G a
theorem zrd_of {G : zG} {h : zHp} {a : Nat} {c : zK} (e : h a = some c) : zrd G h a = some c := by
  unfold zrd
  rw [e]
def zup (h : zHp) (a : Nat) (c : zK) : zHp := fun q => if q = a then some c else h q
theorem zup_s {h : zHp} {a : Nat} {c : zK} : zup h a c a = some c := if_pos rfl
theorem zup_n {h : zHp} {a q : Nat} {c : zK} (n : q ≠ a) : zup h a c q = h q := if_neg n
theorem zrd_s {G : zG} {h : zHp} {a : Nat} {c : zK} : zrd G (zup h a c) a = some c := zrd_of zup_s
theorem zrd_n {G : zG} {h : zHp} {a q : Nat} {c : zK} (n : q ≠ a) : zrd G (zup h a c) q = zrd G h q := by
  unfold zrd
  rw [zup_n n]
/-- the words of the tables that don't ride in lists -/
def zNx (U : State) : Prop :=
  (∀ C T : String, Cond.castable C T ∈ lw_tbl → va_Nw (.castable C T) U) ∧
  (∀ (a : String) (i : Nat) (b n d h : String), Cond.fieldLinkNest a i b n d h ∈ lw_tbl → va_Nw (.fieldLinkNest a i b n d h) U) ∧
  (∀ (a : String) (i : Nat) (x : MethodName) (h : String), Cond.methodLinkNest a i x h ∈ lw_tbl → va_Nw (.methodLinkNest a i x h) U) ∧
  (∀ x : MethodName, Cond.declares x ∈ lw_tbl → va_Nw (.declares x) U) ∧
  (∀ (C : String) (x y : MethodName), (x.cls ≠ "java/lang/invoke/MethodHandle" ∧ x.cls ≠ "java/lang/invoke/VarHandle") → Cond.declares x ∈ lw_tbl → Cond.interfaceMethod x.cls x.cls x.name x.desc ∈ lw_tbl → Cond.publicMethod y ∈ lw_tbl → Cond.unhidden C x.name x.desc ∈ lw_tbl → Cond.castable C x.cls ∈ lw_tbl → va_Fw C x y U) ∧
  (∀ C : String, Cond.arrayOver (.object C) ∈ lw_tbl → va_AO C U)
theorem zNx.of {s : State} {A : Array Value} (h : ∀ w ∈ lw_tbl, w.before A s = true) : zNx s :=
  ⟨fun _ _ w => va_Nw.of rfl (h _ w), fun _ _ _ _ _ _ w => va_Nw.of rfl (h _ w), fun _ _ _ _ w => va_Nw.of rfl (h _ w), fun _ w => va_Nw.of rfl (h _ w),
    fun _ _ _ _ w1 w2 w3 w4 w5 => va_Fw.of (h _ w1) (h _ w2) (h _ w3) (h _ w4) (h _ w5), fun _ w => va_AO.of (h _ w)⟩
theorem zNx.warm {s U : State} (hW : s.WarmedH U.vm) (h : zNx s) : zNx U :=
  ⟨fun _ _ w => va_Nw.warmC hW (h.1 _ _ w), fun _ _ _ _ _ _ w => va_Nw.warmF hW (h.2.1 _ _ _ _ _ _ w), fun _ _ _ _ w => va_Nw.warmM hW (h.2.2.1 _ _ _ _ w), fun _ w => va_Nw.warmD hW (h.2.2.2.1 _ w),
    fun _ _ _ hx w1 w2 w3 w4 w5 => va_Fw.moved hx hW.alike (h.2.2.2.2.1 _ _ _ hx w1 w2 w3 w4 w5), fun _ w => va_AO.moved hW.alike (h.2.2.2.2.2 _ w)⟩
theorem zNx.same {s U : State} (hv : s.vm = U.vm) (h : zNx s) : zNx U :=
  ⟨fun _ _ w => va_Nw.same rfl hv (h.1 _ _ w), fun _ _ _ _ _ _ w => va_Nw.same rfl hv (h.2.1 _ _ _ _ _ _ w), fun _ _ _ _ w => va_Nw.same rfl hv (h.2.2.1 _ _ _ _ w), fun _ w => va_Nw.same rfl hv (h.2.2.2.1 _ w),
    fun _ _ _ hx w1 w2 w3 w4 w5 => va_Fw.moved hx (by rw [hv]; exact Vm.Alike.refl _) (h.2.2.2.2.1 _ _ _ hx w1 w2 w3 w4 w5), fun _ w => va_AO.moved (by rw [hv]; exact Vm.Alike.refl _) (h.2.2.2.2.2 _ w)⟩
/-- statics, String constants, mirrors that the walks read -/
def zsts : List (String × String × String) := [("java/lang/String", "COMPACT_STRINGS", "Z"), ("java/util/ArrayList", "DEFAULTCAPACITY_EMPTY_ELEMENTDATA", "[Ljava/lang/Object;"), ("java/lang/Integer$IntegerCache", "high", "I"), ("java/lang/Integer$IntegerCache", "cache", "[Ljava/lang/Integer;"), ("java/util/BitSet", "$assertionsDisabled", "Z"), ("java/lang/Integer", "DigitOnes", "[B"), ("java/lang/Integer", "DigitTens", "[B"), ("jdk/internal/misc/Unsafe", "ARRAY_BYTE_BASE_OFFSET", "I"), ("jdk/internal/util/ArraysSupport", "LOG2_ARRAY_BYTE_INDEX_SCALE", "I"), ("jdk/internal/util/ArraysSupport", "LOG2_ARRAY_LONG_INDEX_SCALE", "I"), ("jdk/internal/util/ArraysSupport", "LOG2_ARRAY_INT_INDEX_SCALE", "I"), ("jdk/internal/util/ArraysSupport", "LOG2_BYTE_BIT_SIZE", "I"), ("jdk/internal/util/ArraysSupport", "BIG_ENDIAN", "Z"), ("jdk/internal/util/ArraysSupport", "U", "Ljdk/internal/misc/Unsafe;"), ("jdk/internal/misc/UnsafeConstants", "BIG_ENDIAN", "Z")]
def zlts : List (String × Nat × String) := [("FoldLister$Line", 71, ""), ("java/lang/StringLatin1", 151, "")]
def zGK (G : zG) (U : State) : Prop :=
  va_K (zGD G) zcl (zty (zGA G)) U ∧ zNx U ∧ (∀ (a : Nat) (c : zK), zGo G a = some c → a < zG0 G ∧ zAt (zGD G) (zGA G) a c (zGH G)) ∧
  (∀ (k : Nat) (x : String × String × String), zsts[k]? = some x → va_Z x.1 x.2.1 x.2.2 (zw (zGs G k)) (fun q => zG0 G ≤ q) U (zGH G)) ∧
  (∀ (k : Nat) (x : String × Nat × String), zlts[k]? = some x → ∃ a : Nat, zGs G (100 + k) = zp a ∧ vk_R x.1 x.2.1 x.2.2 a U) ∧
  (vx_Zq Bundle.tN "UNASSIGNED_STACK" Bundle.steD (fun q => zG0 G ≤ q) U (zGH G) ∧ vx_Zq Bundle.tN "SUPPRESSED_SENTINEL" Bundle.listD (fun q => zG0 G ≤ q) U (zGH G)) ∧
  (zGl G).stackTraces = false
theorem zGK.warm {G : zG} {s U : State} (hW : s.WarmedH U.vm) (h : zGK G s) : zGK G U := by
  obtain ⟨h1, h2, h3, h4, h5, ⟨h6, h7⟩, h8⟩ := h
  exact ⟨va_K.moved hW.alike h1, h2.warm hW, h3, fun k x e => (h4 k x e).moved hW.alike, fun k x e => by
    obtain ⟨a, e1, e2⟩ := h5 k x e
    exact ⟨a, e1, e2.warm hW⟩, ⟨h6.moved hW.alike, h7.moved hW.alike⟩, h8⟩
theorem zGK.same {G : zG} {s U : State} (hv : s.vm = U.vm) (h : zGK G s) : zGK G U := by
  obtain ⟨h1, h2, h3, h4, h5, ⟨h6, h7⟩, h8⟩ := h
  have ha : s.vm.Alike U.vm := by rw [hv]; exact Vm.Alike.refl _
  exact ⟨va_K.moved ha h1, h2.same hv, h3, fun k x e => (h4 k x e).moved ha, fun k x e => by
    obtain ⟨a, e1, e2⟩ := h5 k x e
    exact ⟨a, e1, e2.same hv.symm⟩, ⟨h6.moved ha, h7.moved ha⟩, h8⟩
theorem zrd_at {G : zG} {U : State} {h : zHp} {H : Heap} {a : Nat} {c : zK} (hG : zGK G U) (hH : zH G h H) (e : zrd G h a = some c) : zAt (zGD G) (zGA G) a c H := by
  unfold zrd at e
  cases hc : h a with
  | some c' =>
    rw [hc] at e
    cases e
    exact (hH.2.2 a c hc).2
  | none =>
    rw [hc] at e
    obtain ⟨h1, h2⟩ := hG.2.2.1 a c e
    exact h2.kept (hH.2.1 a h1)
/-- a method's answer: a value or none, or what it threw -/
abbrev zRs : Type := Option zW ⊕ (String × Nat)
def zQc (G : zG) (Q : zRs → zHp → Prop) : Array Value → State → Outcome → State → Prop := fun _ _ o t => ∃ (v : Option zW) (h : zHp), o = .returned (v.map zw) ∧ zH G h t.heap ∧ Q (.inl v) h
def zXC (G : zG) (Q : zRs → zHp → Prop) : String → Addr → State → State → Prop := fun E q _ t => ∃ h : zHp, zH G h t.heap ∧ Q (.inr (E, q)) h
def zPc (G : zG) (As : List zW) (h : zHp) : Array Value → State → Prop := va_Pc (As.map zw) (fun U => zGK G U ∧ zH G h U.heap)
/-- THE CONTRACT of a method without handlers: from the heap h it ends with Q -/
def zC (G : zG) (y : MethodName) (cc : ByteArray) (nL : Nat) (ret : Option FieldType) (fr lo mc ms : Nat) (As : List zW) (h : zHp) (Q : zRs → zHp → Prop) : Prop :=
  vx_Met (zGl G) y (ws_ y cc nL ret) { frames := fr, cells := mc, slots := ms, locals := lo } (zPc G As h) (zQc G Q) (zXC G Q) mc ms (fun q => zG0 G ≤ q)
/-- the same of a method with handlers -/
def zCW (G : zG) (y : MethodName) (cc : ByteArray) (nL : Nat) (ret : Option FieldType) (hh : List (Nat × Nat × Nat × Nat)) (fr lo mc ms : Nat) (As : List zW) (h : zHp) (Q : zRs → zHp → Prop) : Prop :=
  vx_Met (zGl G) y (wsW_ y cc nL ret hh) { frames := fr, cells := mc, slots := ms, locals := lo } (zPc G As h) (zQc G Q) (zXC G Q) mc ms (fun q => zG0 G ≤ q)
/-- the machine behind a walk -/
abbrev zM : Type := Program × Env × Room × State × MethodId × Array Value × List Frame × Method × Code × (State → Prop) × Nat × Nat
def zV (G : zG) (K : zM) (bc bs : Nat) (h : zHp) (pc : Nat) (L : List (Nat × zW)) (st : List zW) : Prop := match K with
  | (p, e, R, s, m, args, below, meth, c, Q, mc, ms) => ∀ (H : Heap) (locs : List Loc) (cells slots : Nat) (ls : Array Slot), zH G h H → (∀ q ∈ locs, zG0 G ≤ q.base) → cells + bc ≤ mc → slots + bs ≤ ms → lv_has ls c.maxLocals (L.map fun q => (q.1, zw q.2)) →
    W p (zGl G) e R s m args below meth c H locs cells slots Q (F0 m pc ls (st.map zw))
/-- the same where an object q of class E was thrown at pc -/
def zX (G : zG) (K : zM) (bc bs : Nat) (h : zHp) (pc : Nat) (L : List (Nat × zW)) (E : String) (q : Nat) : Prop := match K with
  | (p, e, R, s, m, args, below, meth, c, Q, mc, ms) => ∀ (H : Heap) (locs : List Loc) (cells slots : Nat) (ls : Array Slot) (rest : List Value) (ce : Cell), zH G h H → (∀ q ∈ locs, zG0 G ≤ q.base) → cells + bc ≤ mc → slots + bs ≤ ms → lv_has ls c.maxLocals (L.map fun q => (q.1, zw q.2)) →
    H[q]? = some ce → ce.vm = .none → s.vm.findClass E = some ce.cls → vx_W p (zGl G) e R s m args below meth c H locs cells slots Q (F0 m pc ls rest) q
/-- what holds all through a walk of a method: own class, code, locals, answer, handlers, room, name, what is owed -/
def zO (G : zG) (K : zM) (own : String) (cc : ByteArray) (nL : Nat) (ret : Option FieldType) (hh : List (Nat × Nat × Nat × Nat)) (fr lo : Nat) (nm : String) (Q0 : zRs → zHp → Prop) : Prop := match K with
  | (p, _, R, s, m, args, below, meth, c, Q, mc, ms) => (p.tables.exec = Jvm.exec ∧ c.code = cc ∧ c.maxLocals = nL ∧ s.vm.findClass own = some m.cls ∧ (∀ w ∈ lw_all, w.before args s = true)) ∧ zGK G s ∧ meth.sig.returnType = ret ∧ meth.locks = false ∧ c.exceptionTable.toList = tableOf hh ∧ (R.frames = fr ∧ R.locals = lo ∧ mc ≤ R.cells ∧ ms ≤ R.slots) ∧ meth.name = nm ∧
    Q = vx_MQ below (zQc G Q0) (zXC G Q0) args s mc ms (fun q => zG0 G ≤ q)
theorem zbl {G : zG} {As : List zW} {h : zHp} : FrameBlind (zPc G As h) := by
  rintro a U g mk ⟨e, hg, hh⟩
  exact ⟨e, zGK.same (U := U.calling g mk a) rfl hg, hh⟩
theorem zC.of {G : zG} {y : MethodName} {cc : ByteArray} {nL : Nat} {ret : Option FieldType} {fr lo mc ms : Nat} {As : List zW} {h : zHp} {Q : zRs → zHp → Prop} (hy : plainName y.cls = true) (hn : (lg_sl (As.map zw)).length ≤ nL) {L : List (Nat × zW)} (hL : lv_args 0 (As.map zw) = L.map (fun q => (q.1, zw q.2)))
    (body : ∀ K : zM, zO G K y.cls cc nL ret [] fr lo y.name Q → zV G K mc ms h 0 L []) : zC G y cc nL ret fr lo mc ms As h Q := by
  refine vx_ofW (cc := cc) (maxL := nL) (ret := ret) hy rfl ?_
  intro p e s m args below meth c s₁ B hml htab hv
  obtain ⟨rfl, hgk, hh⟩ := hv
  have hts := atoms_spec (ws := ws_ y cc nL ret) B.pre
  have htb : c.exceptionTable.toList = tableOf [] := by
    cases ht : c.exceptionTable.toList with
    | nil => rfl
    | cons x r => exact absurd (by rw [ht]; exact List.mem_cons_self) (htab x)
  have h0 := body (p, e, (headSpec (ws_ y cc nL ret) { frames := fr, cells := mc, slots := ms, locals := lo }).room, s, m, (As.map zw).toArray, below, meth, c, _, mc, ms)
    ⟨⟨B.exec, B.bytes, hml, findClass_of_methodNamed B.named, fun w h => hts w (List.mem_cons_of_mem _ h)⟩, hgk, B.returns, B.notSynchronized, htb, ⟨rfl, rfl, Nat.le_refl _, Nat.le_refl _⟩, (name_of_methodNamed B.named B.method).1, rfl⟩
  rw [lg_entry_eq]
  exact h0 s.heap [] 0 0 _ hh (fun q h => by cases h) (by omega) (by omega) (by rw [hml, ← hL]; exact lv_entry (As.map zw) hn)
