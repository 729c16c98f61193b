set_option maxRecDepth 100000
/-! ===== AN ABSTRACT MACHINE over the kit's rows: the heap as a function from addresses to contents; one lemma an instruction (am_) ===== -/
def am_cl : List vw_C := [(RX0, TX0, 45), (RX1, TX1, 5), (RX2, TX2, 8), (RX3, TX3, 8), (RX4, TX4, 8), (RX5, TX5, 9), (RX6, TX6, 95), (RX7, TX7, 1), (RX8, TX8, 13), (RX9, TX9, 4), (RX10, TX10, 3), (RX12, TX12, 5), (RX14, TX14, 3), (RX15, TX15, 3), (RX16, TX16, 3), (RX17, TX17, 3), (RX18, TX18, 6), (RX19, TX19, 4), (RX20, TX20, 4), (RX21, TX21, 4), (RX22, TX22, 2), (RX23, TX23, 9), (RX24, TX24, 3), (RX25, TX25, 3), (RX26, TX26, 3), (RX28, TX28, 5), (RX29, TX29, 4), (RX30, TX30, 4), (RX31, TX31, 3), (RX32, TX32, 4), (RX33, TX33, 4), (RX34, TX34, 6), (RX35, TX35, 7), (RJ14, TJ14, 3), (RJ3, TJ3, 4), (RJ4, TJ4, 4)]
def am_tyl : List FieldType := [.int, .byte, .char, .boolean, .long, .object "java/lang/String", .object "PondHouse$Worth", .object "PondHouse$Statement", .object "PondHouse$Body", .object "PondHouse$Kind", .object "PondHouse$Block", .object "PondHouse$Fixed", .object "PondHouse$Creature", .object "PondHouse$Frame", .object "PondHouse$Patch", .object "PondHouse$LongAct", .object "java/lang/Object", .array .int, .array .boolean]
/-- contents of a cell: (array type, length, contents) or (class, fields) -/
abbrev am_E : Type := (Nat × vp_A) ⊕ (Nat × (Nat → Value))
abbrev am_H : Type := Nat → Option am_E
/-- the heap, the next address, the slots in use -/
abbrev am_S : Type := am_H × Nat × Nat
/-- what a method comes to: it returned (void: none), or threw -/
abbrev am_R : Type := Option Value ⊕ Nat
/-- what is fixed: launch; classes; array classes; (first address, bound of addresses, bound of slots); String constants, their arrays; statics -/
abbrev am_G : Type := Launch × va_G × (Nat → ClassId) × (Nat × Nat × Nat) × (Nat → Nat) × (Nat → Nat) × (Nat → Value)
abbrev am_l (G : am_G) : Launch := G.1
abbrev am_D (G : am_G) : va_G := G.2.1
abbrev am_c (G : am_G) : Nat → ClassId := G.2.2.1
abbrev am_z (G : am_G) : Nat := G.2.2.2.1.1
abbrev am_bc (G : am_G) : Nat := G.2.2.2.1.2.1
abbrev am_bs (G : am_G) : Nat := G.2.2.2.1.2.2
abbrev am_sk (G : am_G) : Nat → Nat := G.2.2.2.2.1
abbrev am_sv (G : am_G) : Nat → Nat := G.2.2.2.2.2.1
abbrev am_st (G : am_G) : Nat → Value := G.2.2.2.2.2.2
def am_A (G : am_G) : Nat → Prop := fun q => am_z G ≤ q
def am_used (z : Nat) (H : Heap) : Nat := ((H.toList.drop z).map (fun c : Cell => c.slots.size)).sum
def am_at (G : am_G) (a : Nat) (e : am_E) (H : Heap) : Prop := match e with
  | .inl x => H[a]? = some (vp_cell (am_c G x.1) x.2)
  | .inr x => ∃ r : vw_C, am_cl[x.1]? = some r ∧ t_OB a ((am_D G).1 x.1) r.2.2 ((am_D G).2 x.1) H x.2
def am_hw (G : am_G) (σ : am_S) (H : Heap) : Prop :=
  H.size = σ.2.1 ∧ am_used (am_z G) H = σ.2.2 ∧ σ.2.1 ≤ am_bc G ∧ σ.2.2 ≤ am_bs G ∧ am_z G ≤ σ.2.1 ∧ ∀ (a : Nat) (e : am_E), σ.1 a = some e → am_A G a ∧ am_at G a e H
theorem am_at.kept {G : am_G} {a : Nat} {e : am_E} {H H1 : Heap} (h : am_at G a e H) (hq : H1[a]? = H[a]?) : am_at G a e H1 := by
  cases e with
  | inl x => exact hq.trans h
  | inr x =>
    obtain ⟨r, h1, h2⟩ := h
    exact ⟨r, h1, h2.kept hq⟩
theorem am_at.lt {G : am_G} {a : Nat} {e : am_E} {H : Heap} (h : am_at G a e H) : a < H.size := by
  cases e with
  | inl x => exact (Array.getElem?_eq_some_iff.mp h).1
  | inr x =>
    obtain ⟨r, h1, cell, h2, -⟩ := h
    exact (Array.getElem?_eq_some_iff.mp h2).1
/-! the slots in use -/
theorem am_used_eq {z : Nat} {H H1 : Heap} (hs : H1.size = H.size) (hq : ∀ q : Nat, (H1[q]?).map (fun c : Cell => c.slots.size) = (H[q]?).map (fun c : Cell => c.slots.size)) : am_used z H1 = am_used z H := by
  have h : H1.toList.map (fun c : Cell => c.slots.size) = H.toList.map (fun c : Cell => c.slots.size) := by
    apply List.ext_getElem?
    intro q
    rw [List.getElem?_map, List.getElem?_map, Array.getElem?_toList, Array.getElem?_toList]
    exact hq q
  unfold am_used
  rw [List.map_drop, List.map_drop, h]
theorem am_used_one {z a : Nat} {c c' : Cell} {H H1 : Heap} (hc : H[a]? = some c) (hc' : H1[a]? = some c') (hz : c'.slots.size = c.slots.size) (hs : H1.size = H.size) (ho : ∀ q : Nat, q ≠ a → H1[q]? = H[q]?) : am_used z H1 = am_used z H := by
  refine am_used_eq hs fun q => ?_
  by_cases h : q = a
  · subst h
    rw [hc, hc']
    simp [hz]
  · rw [ho q h]
theorem am_used_app {z : Nat} {H H1 : Heap} (hz : z ≤ H.size) (hs : H.size ≤ H1.size) (hq : ∀ q : Nat, q < H.size → (H1[q]?).map (fun c : Cell => c.slots.size) = (H[q]?).map (fun c : Cell => c.slots.size)) : am_used z H1 = am_used z H + ((H1.toList.drop H.size).map (fun c : Cell => c.slots.size)).sum := by
  have e : (H1.toList.drop z) = ((H1.toList.drop z).take (H.size - z)) ++ (H1.toList.drop H.size) := by
    have h1 := (List.take_append_drop (H.size - z) (H1.toList.drop z)).symm
    rw [List.drop_drop] at h1
    rw [show z + (H.size - z) = H.size by omega] at h1
    exact h1
  have e2 : ((H1.toList.drop z).take (H.size - z)).map (fun c : Cell => c.slots.size) = (H.toList.drop z).map (fun c : Cell => c.slots.size) := by
    apply List.ext_getElem?
    intro q
    rw [List.getElem?_map, List.getElem?_map, List.getElem?_take, List.getElem?_drop, List.getElem?_drop]
    by_cases h : q < H.size - z
    · rw [if_pos h, Array.getElem?_toList, Array.getElem?_toList]
      exact hq (z + q) (by omega)
    · rw [if_neg h]
      have : H.toList[z + q]? = none := by
        rw [Array.getElem?_toList]
        exact Array.getElem?_eq_none (by omega)
      rw [this]
  unfold am_used
  rw [e, List.map_append, List.sum_append, e2]
theorem am_used_push {z : Nat} {H : Heap} {c : Cell} (hz : z ≤ H.size) : am_used z (H.push c) = am_used z H + c.slots.size := by
  rw [am_used_app (H := H) hz (by simp)]
  · congr 1
    rw [Array.toList_push, show H.size = H.toList.length by simp, List.drop_left]
    simp
  · intro q hq
    rw [Array.getElem?_push, if_neg (Nat.ne_of_lt hq)]
/-! what holds of the tables all through a run -/
def am_odd : Cond → Bool
  | .fieldLinkNest .. => true
  | .methodLinkNest .. => true
  | .declares _ => true
  | .castable .. => true
  | .arrayOver (.object _) => true
  | .arrayOver (.array _) => true
  | .privateMethod _ => true
  | _ => false
/-- String constants: class, entry, text, which text of the texts -/
def am_txs : List String := ["{}();=+-*/<.", "kind", "under", "field", "link", "static", "act", "give", "fail", "above", "do", "send", "rest", "if", "else", "v", "last", "change", "drop", "move", "rename", "carry", "check"]
def am_wK (U : State) : Prop := (∀ w ∈ lw_all, ∀ a : Array Value, w.before a U = true) ∧ ∀ w ∈ lw_tbl, am_odd w = true → w.before #[] U = true
def am_oK (G : am_G) (U : State) : Prop := ∀ (c : Nat) (q : vw_C), am_cl[c]? = some q → u_Kn U q.1 q.2.1 q.2.2 ((am_D G).1 c) ((am_D G).2 c)
def am_aK (G : am_G) (U : State) : Prop := ∀ (k : Nat) (ty : FieldType), am_tyl[k]? = some ty → ArrOfT U (am_c G k) ty ∧ va_RA U (am_c G k) ty
/-- the String constants: (class, entry, text, its number among am_txs) -/
def am_K (G : am_G) (U : State) : Prop := am_oK G U ∧ am_aK G U ∧ am_wK U
/-- arrays of arrays: the words of their class -/
theorem am_AO1 {s : State} {ty : FieldType} (h : (Cond.arrayOver (.array ty)).before #[] s = true) : ∃ comp c k, s.vm.findClass (FieldType.array ty).toString = some comp ∧ (s.vm.classes.findIdx? fun (x : Class) => match x.kind with | .array component _ => component == comp | _ => false) = some c ∧ s.vm.classes[c]? = some k ∧ k.kind = .array comp (.array ty) ∧ s.vm.findClass ("[" ++ (FieldType.array ty).toString) = some c := by
  unfold Cond.before at h
  simp only [Cond.holds, Cond.value, beq_iff_eq] at h
  cases hc : s.vm.findClass (FieldType.array ty).toString with
  | none => simp [hc] at h
  | some comp =>
    simp only [hc, Option.bind_some, Option.bind_eq_some_iff, Option.map_eq_some_iff] at h
    obtain ⟨c, hi, k, hk, hb⟩ := h
    obtain ⟨hlt, hp, -⟩ := Array.findIdx?_eq_some_iff_getElem.mp hi
    have hkk : s.vm.classes[c] = k := (Array.getElem?_eq_some_iff.mp hk).2
    rw [hkk] at hp
    cases hkind : k.kind with
    | array component t9 =>
      rw [hkind] at hb hp
      simp at hb hp
      exact ⟨comp, c, k, rfl, hi, hk, by rw [hkind, hp, hb.1], hb.2⟩
    | _ => rw [hkind] at hb; simp at hb
theorem am_AO2 {u U : State} {ty : FieldType} (hvm : u.vm.Alike U.vm) (h : (Cond.arrayOver (.array ty)).before #[] u = true) : (Cond.arrayOver (.array ty)).before #[] U = true := by
  obtain ⟨comp, c, k, h1, h2, h3, h4, h5⟩ := am_AO1 h
  obtain ⟨k', hk', he⟩ := hvm.2.2 _ _ h3
  have hi : (U.vm.classes.findIdx? fun (x : Class) => match x.kind with | .array component _ => component == comp | _ => false) = some c := by
    refine (va_idx_bare U.vm comp).symm.trans ?_
    first | rw [hvm.bare_eq] | rw [← hvm.bare_eq]
    exact (va_idx_bare _ _).trans h2
  have hkind : k'.kind = .array comp (.array ty) := by rw [he]; exact h4
  have f1 : U.vm.findClass (FieldType.array ty).toString = some comp := by rw [hvm.findClass]; exact h1
  have f2 : U.vm.findClass ("[" ++ (FieldType.array ty).toString) = some c := by rw [hvm.findClass]; exact h5
  unfold Cond.before Cond.holds
  simp only [Cond.value]
  rw [f1, Option.bind_some]
  refine (congrArg (fun o : Option Nat => (o.bind (fun c => (U.vm.classes[c]?).map fun (k : Class) => match k.kind with | .array _ t9 => decide (t9 = FieldType.array ty) && decide (U.vm.findClass ("[" ++ (FieldType.array ty).toString) = some c) | _ => false) == some true)) hi).trans ?_
  simp [hk', hkind, f2]
theorem am_wK.warm {s U : State} (hW : s.WarmedH U.vm) (h : am_wK s) : am_wK U := by
  refine ⟨fun w hw a => word_at hW (lw_self w hw).2 (h.1 w hw #[]), fun w hw ho => ?_⟩
  have h1 := h.2 w hw ho
  cases w with
  | fieldLinkNest a b c d e f => exact va_Nw.warmF hW h1
  | methodLinkNest a b c d => exact va_Nw.warmM hW h1
  | declares x => exact va_Nw.warmD hW h1
  | privateMethod x => exact Cond.privateMethod_warm hW h1
  | castable a b => exact va_Nw.warmC hW h1
  | arrayOver ty =>
    cases ty with
    | object C => exact va_AO.moved hW.alike h1
    | array t => exact am_AO2 hW.alike h1
    | _ => cases ho
  | _ => cases ho
theorem am_K.warm {G : am_G} {s U : State} (hW : s.WarmedH U.vm) (h : am_K G s) : am_K G U :=
  ⟨fun c q hq => u_Kn_moved hW.alike (h.1 c q hq), fun k ty hk => ⟨arrOfT_moved hW.alike (h.2.1 k ty hk).1, (h.2.1 k ty hk).2.moved hW.alike⟩, h.2.2.warm hW⟩
/-! a method: its name, code, locals, answer, handlers -/
abbrev am_M : Type := MethodName × ByteArray × Nat × Option FieldType × List (Nat × Nat × Nat × Nat)
/-- what is fixed of the heap below: the texts' Strings and arrays, statics -/
def am_stl : List (String × String × String) := [("java/lang/String", "COMPACT_STRINGS", "Z"), ("java/util/ArrayList", "DEFAULTCAPACITY_EMPTY_ELEMENTDATA", "[Ljava/lang/Object;"), ("java/lang/Throwable", "UNASSIGNED_STACK", "[Ljava/lang/StackTraceElement;"), ("java/lang/Throwable", "SUPPRESSED_SENTINEL", "Ljava/util/List;"), ("jdk/internal/util/Preconditions", "SIOOBE_FORMATTER", "Ljava/util/function/BiFunction;")]
def am_byte (i j : Nat) : Int32 := Int32.ofNat (((am_txs.getD i "").toList.getD j 'a').toNat)
def am_hK (G : am_G) (U : State) (H : Heap) : Prop :=
  (∀ i : Nat, i < 23 → va_O "java/lang/String" (am_sk G i) (am_A G) U H ∧ va_OF "java/lang/String" "coder" "B" (.int 0) (am_sk G i) (am_A G) U H ∧ va_OF "java/lang/String" "value" "[B" (.ref (am_sv G i)) (am_sk G i) (am_A G) U H ∧ va_T .byte (am_sv G i) ((am_txs.getD i "").length) (fun j => .int (am_byte i j)) (am_A G) U H) ∧
  (∀ (i : Nat) (q : String × String × String), am_stl[i]? = some q → va_Z q.1 q.2.1 q.2.2 (am_st G i) (am_A G) U H) ∧
  (∃ t : Nat, am_st G 1 = .ref t ∧ va_T (.object "java/lang/Object") t 0 (fun _ => .null) (am_A G) U H) ∧ va_T .int (am_sk G 24) (am_sv G 24) (fun i => am_st G (100 + i)) (am_A G) U H
theorem am_hK.moved {G : am_G} {u U : State} {H : Heap} (hvm : u.vm.Alike U.vm) (h : am_hK G u H) : am_hK G U H :=
  ⟨fun i hi => ⟨va_O.moved hvm (h.1 i hi).1, va_OF.moved hvm (h.1 i hi).2.1, va_OF.moved hvm (h.1 i hi).2.2.1, va_T.moved hvm (h.1 i hi).2.2.2⟩, fun i q hq => va_Z.moved hvm (h.2.1 i q hq), ⟨h.2.2.1.choose, h.2.2.1.choose_spec.1, va_T.moved hvm h.2.2.1.choose_spec.2⟩, va_T.moved hvm h.2.2.2⟩
theorem am_hK.kept {G : am_G} {U : State} {H H1 : Heap} (h : am_hK G U H) (hq : ∀ a : Nat, a < H.size → ¬ am_A G a → H1[a]? = H[a]?) : am_hK G U H1 :=
  ⟨fun i hi => ⟨(h.1 i hi).1.kept hq, (h.1 i hi).2.1.kept hq, (h.1 i hi).2.2.1.kept hq, (h.1 i hi).2.2.2.kept hq⟩, fun i q hi => (h.2.1 i q hi).kept hq, ⟨h.2.2.1.choose, h.2.2.1.choose_spec.1, h.2.2.1.choose_spec.2.kept hq⟩, h.2.2.2.kept hq⟩
/-- pairs of classes that cannot be cast: the tests of 'instanceof' that fail -/
def am_ncs : List (String × String) := [("PondHouse$Chooses", "PondHouse$Rests"), ("PondHouse$Sets", "PondHouse$Rests"), ("PondHouse$Gives", "PondHouse$Rests"), ("PondHouse$Calls", "PondHouse$Rests"), ("PondHouse$Comes", "PondHouse$Edits"), ("PondHouse$Goes", "PondHouse$Edits"), ("PondHouse$Moves", "PondHouse$Edits"), ("PondHouse$Checks", "PondHouse$Edits"), ("PondHouse$Comes", "PondHouse$Checks"), ("PondHouse$Goes", "PondHouse$Checks"), ("PondHouse$Moves", "PondHouse$Checks"), ("PondHouse$Edits", "PondHouse$Checks")]
/-- String constants resolved: all of them; casts that fail -/
def am_sK (G : am_G) (U : State) : Prop := (∀ (own : String) (k : Nat) (tx : String), Cond.stringRef own k tx ∈ lw_tbl → ∃ i, i < 23 ∧ am_txs[i]? = some tx ∧ vk_R own k tx (am_sk G i) U) ∧ (∀ q ∈ am_ncs, va_Nc q.1 q.2 U) ∧ va_Mi "[Ljava/lang/Object;" (am_sk G 23) U
theorem am_sK.warm {G : am_G} {s U : State} (hW : s.WarmedH U.vm) (h : am_sK G s) : am_sK G U := ⟨fun own k tx hm => by
  obtain ⟨i, h1, h2, h3⟩ := h.1 own k tx hm
  exact ⟨i, h1, h2, h3.warm hW⟩, fun q hq => va_Nc.moved hW.alike (h.2.1 q hq), va_Mi.moved hW.alike h.2.2⟩
/-- the method's context -/
def am_Cx (G : am_G) (M : am_M) (d : Nat) (p : Program) (R : Room) (s : State) (m : MethodId) (meth : Method) (c : Code) : Prop :=
  p.tables.exec = Jvm.exec ∧ c.code = M.2.1 ∧ meth.sig.returnType = M.2.2.2.1 ∧ c.maxLocals = M.2.2.1 ∧ s.vm.findClass M.1.cls = some m.cls ∧ meth.locks = false ∧ meth.name = M.1.name ∧ c.exceptionTable.toList = tableOf M.2.2.2.2 ∧
  (d ≤ R.frames ∧ 64 * d ≤ R.locals) ∧ (am_bc G ≤ s.heap.size + R.cells ∧ am_bs G ≤ am_used (am_z G) s.heap + R.slots ∧ am_z G ≤ s.heap.size) ∧ am_K G s ∧ am_sK G s ∧ am_hK G s s.heap
/-- the end of a method: it returned or threw, with Q, and the heap is as Q's state says -/
def am_Qc (G : am_G) (Q : am_R → am_S → Prop) : Array Value → State → Outcome → State → Prop := fun _ _ o t => ∃ (v : Option Value) (σ : am_S), o = .returned v ∧ Q (.inl v) σ ∧ am_hw G σ t.heap
def am_Qx (G : am_G) (Q : am_R → am_S → Prop) (mc ms : Nat) : Array Value → State → Outcome → State → Prop := fun a st o t =>
  (am_Qc G Q a st o t ∧ ∃ L, FrameEnd st o t L mc ms ∧ ∀ z ∈ L, am_A G z.base) ∨
  ∃ (q : Addr) (σ : am_S) (L : List Loc), o = .threw q ∧ Q (.inr q) σ ∧ am_hw G σ t.heap ∧ st.WarmedH t.vm ∧ st.sameButNew ({ t with vm := st.vm } : State) L mc ms ∧ ∀ z ∈ L, am_A G z.base
def am_end (G : am_G) (Q : am_R → am_S → Prop) (below : List Frame) (args : Array Value) (s : State) (R : Room) : State → Prop := fun t =>
  ∃ o, t.status = .running ∧ Ended t below o ∧ am_Qx G Q R.cells R.slots args s o t
/-- the locals: key 2 i: a value of one word at i; key 2 i + 1: a value of two words at i -/
def am_has (ls : Array Slot) (n : Nat) (L : List (Nat × Value)) : Prop := ls.size = n ∧ lv_wf ls ∧ ∀ q ∈ L, ls[q.1 / 2]? = some (.val q.2) ∧ q.2.category = q.1 % 2 + 1
/-- FROM HERE ON: the method M at pc, with d frames of room, locals L, stack st, heap σ, ends with Q -/
def am_Wp (G : am_G) (M : am_M) (pc d : Nat) (L : List (Nat × Value)) (st : List Value) (σ : am_S) (Q : am_R → am_S → Prop) : Prop :=
  ∀ (p : Program) (e : Env) (R : Room) (s : State) (m : MethodId) (args : Array Value) (below : List Frame) (meth : Method) (c : Code) (H : Heap) (locs : List Loc) (cells slots : Nat) (ls : Array Slot),
    am_Cx G M d p R s m meth c → am_hw G σ H → (∀ z ∈ locs, am_A G z.base) → am_has ls M.2.2.1 L →
    W p (am_l G) e R s m args below meth c H locs cells slots (am_end G Q below args s R) (F0 m pc ls st)
/-- the same, with q thrown at pc -/
def am_Wx (G : am_G) (M : am_M) (pc d : Nat) (L : List (Nat × Value)) (σ : am_S) (q : Nat) (Q : am_R → am_S → Prop) : Prop :=
  ∀ (p : Program) (e : Env) (R : Room) (s : State) (m : MethodId) (args : Array Value) (below : List Frame) (meth : Method) (c : Code) (H : Heap) (locs : List Loc) (cells slots : Nat) (ls : Array Slot) (rest : List Value),
    am_Cx G M d p R s m meth c → am_hw G σ H → (∀ z ∈ locs, am_A G z.base) → am_has ls M.2.2.1 L →
    vx_W p (am_l G) e R s m args below meth c H locs cells slots (am_end G Q below args s R) (F0 m pc ls rest) q
section
variable {p : Program} {l : Launch} {e : Env} {R : Room} {s : State} {m : MethodId} {args : Array Value} {below : List Frame} {meth : Method} {c : Code} {T : State} {locs : List Loc} {cells slots : Nat}
/-- the counters as the heap has them -/
theorem am_tight (X : Stand p l e R s m args below meth c T locs cells slots) : Stand p l e R s m args below meth c T locs (T.heap.size - s.heap.size) ((T.heap.toList.drop s.heap.size).map (·.slots.size)).sum := by
  refine { X with same := ?_ }
  obtain ⟨h1, h2, h3, h4, h5, h6⟩ := X.same
  have e : (T.setVm s.vm).heap = T.heap := rfl
  rw [e] at h2 h3 h4 h5
  exact ⟨h1, h2, by rw [e]; omega, h4, by rw [e]; exact Nat.le_refl _, h6⟩
theorem am_frame (X : Stand p l e R s m args below meth c T locs cells slots) {A : Nat → Prop} (hA : ∀ z ∈ locs, A z.base) : ∀ q : Nat, q < s.heap.size → ¬ A q → T.heap[q]? = s.heap[q]? := by
  have h := vx_frame (U := T) X.same
  exact fun q hq hn => h.2 q hq fun z hz e => hn (e ▸ hA z hz)
theorem am_grow (X : Stand p l e R s m args below meth c T locs cells slots) {z : Nat} (hz : z ≤ s.heap.size) : am_used z T.heap = am_used z s.heap + ((T.heap.toList.drop s.heap.size).map (fun c : Cell => c.slots.size)).sum := by
  obtain ⟨-, h2, -, -, -, h6⟩ := X.same
  refine am_used_app hz h2 fun q hq => ?_
  obtain ⟨c9, e1, -, e3, -⟩ := h6 q _ (Array.getElem?_eq_getElem hq)
  have e1' : T.heap[q]? = some c9 := e1
  rw [e1', Array.getElem?_eq_getElem hq]
  simp [e3]
end
