set_option maxRecDepth 100000
/-! ===== am_: returns, throws, calls ===== -/
section
variable {G : am_G} {M : am_M} {pc d : Nat} {L : List (Nat × Value)} {rest : List Value} {σ : am_S} {Q : am_R → am_S → Prop}
variable {p : Program} {l : Launch} {e : Env} {R : Room} {s : State} {m : MethodId} {args : Array Value} {below : List Frame} {meth : Method} {c : Code} {H : Heap} {T : State} {locs : List Loc} {cells slots : Nat}
/-- the counters, from the heap, within the room -/
theorem am_fit (X : Stand p l e R s m args below meth c T locs cells slots) (hroom : am_bc G ≤ s.heap.size + R.cells ∧ am_bs G ≤ am_used (am_z G) s.heap + R.slots ∧ am_z G ≤ s.heap.size) (hw : am_hw G σ T.heap) : Stand p l e R s m args below meth c T locs R.cells R.slots := by
  have hg : am_used (am_z G) T.heap = am_used (am_z G) s.heap + ((T.heap.toList.drop s.heap.size).map (fun c : Cell => c.slots.size)).sum := am_grow X hroom.2.2
  have h1 : T.heap.size = σ.2.1 := hw.1
  have h2 : am_used (am_z G) T.heap = σ.2.2 := hw.2.1
  have h3 : σ.2.1 ≤ am_bc G := hw.2.2.1
  have h4 : σ.2.2 ≤ am_bs G := hw.2.2.2.1
  have h5 := hroom.1
  have h6 := hroom.2.1
  generalize am_bc G = bc at h3 h5
  generalize am_bs G = bs at h4 h6
  exact stand_widen (am_tight X) (by omega) (by omega)
theorem am_leave (C : am_Cx G M d p R s m meth c) (hw : am_hw G σ H) {g : JFrame} (k : W p l e R s m args below meth c H locs R.cells R.slots (MQ below (am_Qc G Q) args s R.cells R.slots (am_A G)) g) : W p l e R s m args below meth c H locs cells slots (am_end G Q below args s R) g := by
  intro T hT X
  subst hT
  obtain ⟨t, a1, o, b1, b2, b3, b4⟩ := k T rfl (am_fit X C.2.2.2.2.2.2.2.2.2.1 hw)
  exact ⟨t, a1, o, b1, b2, Or.inl ⟨b3, b4⟩⟩
end
section
variable {G : am_G} {M : am_M} {pc d : Nat} {L : List (Nat × Value)} {rest : List Value} {σ : am_S} {Q : am_R → am_S → Prop}
theorem am_iret {v : Int32} (hr : M.2.2.2.1 = some .int) (hdg : decode M.2.1 pc = .ok (.ireturn, 1)) (hQ : Q (.inl (some (.int v))) σ) : am_Wp G M pc d L [.int v] σ Q := by
  intro p e R s m args below meth c H locs cells slots ls C hw hA hl
  have hlocks : meth.locks = false := C.2.2.2.2.2.1
  refine am_leave C hw ?_
  exact W.iret C.1 C.2.1 (C.2.2.1.trans hr) (fun t ht hW => ⟨_, σ, rfl, hQ, by rw [ht]; exact hw⟩) hA hdg
/-- a boolean, byte, char or short -/
theorem am_zret {v : Int32} {ty : FieldType} (hr : M.2.2.2.1 = some ty) (hn : narrow ty (.int v) = .int v) (hdg : decode M.2.1 pc = .ok (.ireturn, 1)) (hQ : Q (.inl (some (.int v))) σ) : am_Wp G M pc d L [.int v] σ Q := by
  intro p e R s m args below meth c H locs cells slots ls C hw hA hl
  have hlocks : meth.locks = false := C.2.2.2.2.2.1
  refine am_leave C hw ?_
  exact W.zret C.1 C.2.1 (C.2.2.1.trans hr) hn (fun t ht hW => ⟨_, σ, rfl, hQ, by rw [ht]; exact hw⟩) hA hdg
theorem am_lret {v : Int64} (hr : M.2.2.2.1 = some .long) (hdg : decode M.2.1 pc = .ok (.lreturn, 1)) (hQ : Q (.inl (some (.long v))) σ) : am_Wp G M pc d L [.long v] σ Q := by
  intro p e R s m args below meth c H locs cells slots ls C hw hA hl
  have hlocks : meth.locks = false := C.2.2.2.2.2.1
  refine am_leave C hw ?_
  exact W.lret C.1 C.2.1 (C.2.2.1.trans hr) (fun t ht hW => ⟨_, σ, rfl, hQ, by rw [ht]; exact hw⟩) hA hdg
theorem am_vret (hr : M.2.2.2.1 = none) (hdg : decode M.2.1 pc = .ok (.return_, 1)) (hQ : Q (.inl none) σ) : am_Wp G M pc d L [] σ Q := by
  intro p e R s m args below meth c H locs cells slots ls C hw hA hl
  have hlocks : meth.locks = false := C.2.2.2.2.2.1
  refine am_leave C hw ?_
  exact W.vret C.1 C.2.1 (C.2.2.1.trans hr) (fun t ht hW => ⟨_, σ, rfl, hQ, by rw [ht]; exact hw⟩) hA hdg
theorem am_aret {r : Option Nat} {rt : FieldType} (hr : M.2.2.2.1 = some rt) (hrt : rt.isReference = true) (hdg : decode M.2.1 pc = .ok (.areturn, 1)) (hQ : Q (.inl (some (va_rf r))) σ) : am_Wp G M pc d L [va_rf r] σ Q := by
  intro p e R s m args below meth c H locs cells slots ls C hw hA hl
  have hlocks : meth.locks = false := C.2.2.2.2.2.1
  refine am_leave C hw ?_
  refine W.aret C.1 C.2.1 (C.2.2.1.trans hr) ?_ ?_ (fun t ht hW => ⟨_, σ, rfl, hQ, by rw [ht]; exact hw⟩) hA hdg
  · cases rt with
    | object n => exact Or.inl ⟨n, rfl⟩
    | array t => exact Or.inr ⟨t, rfl⟩
    | _ => cases hrt
  · cases r with
    | none => exact Or.inl rfl
    | some a => exact Or.inr ⟨a, rfl⟩
theorem am_athrow {q : Nat} (hdg : decode M.2.1 pc = .ok (.athrow, 1)) (k : am_Wx G M pc d L σ q Q) : am_Wp G M pc d L (.ref q :: rest) σ Q := fun p e R s m args below meth c H locs cells slots ls C hw hA hl => vx_athrow C.1 C.2.1 hdg (k p e R s m args below meth c H locs cells slots ls rest C hw hA hl)
/-- not caught here -/
theorem am_xout {q : Nat} (hout : ∀ x ∈ tableOf M.2.2.2.2, covers x pc = false) (hQ : Q (.inr q) σ) : am_Wx G M pc d L σ q Q := by
  intro p e R s m args below meth c H locs cells slots ls rest C hw hA hl T hT X
  subst hT
  have hlocks : meth.locks = false := C.2.2.2.2.2.1
  have X1 := am_fit X C.2.2.2.2.2.2.2.2.2.1 hw
  obtain ⟨st1, hrun, hend, hW, hsm⟩ := X1.leaveThrown q (g := F0 m pc ls rest) rfl rfl rfl (by rw [C.2.2.2.2.2.2.2.1]; exact hout) hlocks
  exact ⟨_, st1, .threw q, hrun, hend, Or.inr ⟨q, σ, locs, rfl, hQ, hw, hW, hsm, hA⟩⟩
/-- a handler for a class -/
theorem am_xcatch {q ci : Nat} {Cn nm : String} {T : u_T} {N : Nat} {ty : Nat → FieldType} {f : Nat → Value} {pre suf : List ExceptionTableEntry} {x : ExceptionTableEntry} (hI : am_inf ci Cn T N ty) (hsplit : tableOf M.2.2.2.2 = pre ++ x :: suf) (hpass : ∀ z ∈ pre, covers z pc = false) (hx : covers x pc = true) (h0 : x.catchType ≠ 0) (hlink : Cond.classLink M.1.cls x.catchType nm ∈ lw_all) (hcast : Cond.castable Cn nm ∈ lw_tbl ∨ Cn = nm) (hq : σ.1 q = some (.inr (ci, f)))
    (k : am_Wp G M x.handlerPc d L [.ref q] σ Q) : am_Wx G M pc d L σ q Q := by
  intro p e R s m args below meth c H locs cells slots ls rest C hw hA hl T0 hT X
  have C0 := C
  obtain ⟨hxx, hb, hr, hml, hown, hlocks, hname, htab, hfr, hroom, ⟨hoK, haK, hwK⟩, hsK, hhK⟩ := C
  obtain ⟨hAq, r, h1, cell, q1, q2, q3, q4⟩ := hw.2.2.2.2.2 q _ hq
  have hr1 : r = (Cn, T, N) := Option.some.inj (h1.symm.trans hI.1)
  subst hr1
  have hcls := (hoK ci _ hI.1).2
  have hpl : e.platform.magicAccessors = ({} : Platform).magicAccessors := by rw [X.admits.platform]
  obtain ⟨c5, hc5, hcl5⟩ := Cond.classLink_spec (args := args) hown (hwK.1 _ hlink args) e.platform hpl
  have hasg : s.vm.assignable cell.cls c5 = true := by
    rw [q2]
    rcases hcast with h | h
    · obtain ⟨c3, c4, hc3, hc4, hasg⟩ := Cond.castable_spec (args := #[]) (hwK.2 _ h rfl)
      have e1 : c3 = (am_D G).1 ci := Option.some.inj (hc3.symm.trans hcls.1)
      have e2 : c4 = c5 := Option.some.inj (hc4.symm.trans hc5)
      rw [← e1, ← e2]; exact hasg
    · have e2 : c5 = (am_D G).1 ci := Option.some.inj (hc5.symm.trans (by rw [← h]; exact hcls.1))
      rw [e2]; exact va_assign hcls
  obtain ⟨kC, hkC, -⟩ := hcls.2
  obtain ⟨vm', X', st⟩ := X.thenCaughtThrough q (g := F0 m pc ls rest) rfl (Steps.refl _) (cell := cell) (by rw [hT]; exact q1) (by rw [q3]; rfl) (by rw [q2]; exact ⟨kC, hkC⟩) pre x suf (by rw [htab]; exact hsplit) (fun z hz => Or.inl (hpass z hz)) hx (Or.inr ⟨h0, c5, hcl5, hasg⟩)
  obtain ⟨t, a1, b1⟩ := k p e R s m args below meth c H locs cells slots ls C0 hw hA hl (T0.setVm vm') hT X'
  exact ⟨t, st.trans a1, b1⟩
/-- a handler for all -/
theorem am_xany {q ci : Nat} {Cn : String} {T : u_T} {N : Nat} {ty : Nat → FieldType} {f : Nat → Value} {pre suf : List ExceptionTableEntry} {x : ExceptionTableEntry} (hI : am_inf ci Cn T N ty) (hsplit : tableOf M.2.2.2.2 = pre ++ x :: suf) (hpass : ∀ z ∈ pre, covers z pc = false) (hx : covers x pc = true) (h0 : x.catchType = 0) (hq : σ.1 q = some (.inr (ci, f)))
    (k : am_Wp G M x.handlerPc d L [.ref q] σ Q) : am_Wx G M pc d L σ q Q := by
  intro p e R s m args below meth c H locs cells slots ls rest C hw hA hl T0 hT X
  have C0 := C
  obtain ⟨hxx, hb, hr, hml, hown, hlocks, hname, htab, hfr, hroom, ⟨hoK, haK, hwK⟩, hsK, hhK⟩ := C
  obtain ⟨hAq, r, h1, cell, q1, q2, q3, q4⟩ := hw.2.2.2.2.2 q _ hq
  have hr1 : r = (Cn, T, N) := Option.some.inj (h1.symm.trans hI.1)
  subst hr1
  have hcls := (hoK ci _ hI.1).2
  obtain ⟨kC, hkC, -⟩ := hcls.2
  obtain ⟨vm', X', st⟩ := X.thenCaughtThrough q (g := F0 m pc ls rest) rfl (Steps.refl _) (cell := cell) (by rw [hT]; exact q1) (by rw [q3]; rfl) (by rw [q2]; exact ⟨kC, hkC⟩) pre x suf (by rw [htab]; exact hsplit) (fun z hz => Or.inl (hpass z hz)) hx (Or.inl h0)
  obtain ⟨t, a1, b1⟩ := k p e R s m args below meth c H locs cells slots ls C0 hw hA hl (T0.setVm vm') hT X'
  exact ⟨t, st.trans a1, b1⟩
/-! a method from outside -/
/-- the locals L at the entry, from the place i on, hold the arguments -/
def am_ent : Nat → List Value → List (Nat × Value) → Prop
  | _, [], [] => True
  | i, v :: vs, q :: L => q.2 = v ∧ ((q.1 = 2 * i ∧ v.category = 1 ∧ am_ent (i + 1) vs L) ∨ (q.1 = 2 * i + 1 ∧ v.category = 2 ∧ am_ent (i + 2) vs L))
  | _, _, _ => False
theorem am_ent.has {vs : List Value} : ∀ {i : Nat} {L : List (Nat × Value)}, am_ent i vs L → ∀ q ∈ L, (q.1 / 2, q.2) ∈ lv_args i vs ∧ q.2.category = q.1 % 2 + 1 := by
  induction vs with
  | nil =>
    intro i L h q hq
    cases L with
    | nil => cases hq
    | cons a b => exact h.elim
  | cons v vs ih =>
    intro i L h q hq
    cases L with
    | nil => cases hq
    | cons a b =>
      obtain ⟨h1, h2⟩ := h
      rcases List.mem_cons.mp hq with rfl | hq
      · rcases h2 with ⟨e1, e2, -⟩ | ⟨e1, e2, -⟩
        · refine ⟨?_, by rw [h1, e2, e1]; omega⟩
          rw [h1, e1, Nat.mul_div_cancel_left i (by decide)]
          exact List.mem_cons_self
        · refine ⟨?_, by rw [h1, e2, e1]; omega⟩
          rw [h1, e1, show (2 * i + 1) / 2 = i by omega]
          exact List.mem_cons_self
      · rcases h2 with ⟨-, e2, e3⟩ | ⟨-, e2, e3⟩
        · obtain ⟨f1, f2⟩ := ih e3 q hq
          refine ⟨?_, f2⟩
          show _ ∈ (i, v) :: lv_args (if v.category = 2 then i + 2 else i + 1) vs
          rw [if_neg (by omega)]
          exact List.mem_cons_of_mem _ f1
        · obtain ⟨f1, f2⟩ := ih e3 q hq
          refine ⟨?_, f2⟩
          show _ ∈ (i, v) :: lv_args (if v.category = 2 then i + 2 else i + 1) vs
          rw [if_pos e2]
          exact List.mem_cons_of_mem _ f1
def am_rm (G : am_G) (d : Nat) (σ : am_S) : Room := { frames := d, cells := am_bc G - σ.2.1, slots := am_bs G - σ.2.2, locals := 64 * d }
def am_Pc (G : am_G) (args : List Value) (σ : am_S) : Array Value → State → Prop := fun a U => a = args.toArray ∧ am_hw G σ U.heap ∧ am_K G U ∧ am_sK G U ∧ am_hK G U U.heap
def am_Mt (G : am_G) (Mc : am_M) (d : Nat) (w : Cond) (args : List Value) (σ : am_S) (Q : am_R → am_S → Prop) : Prop := MetFree (am_l G) Mc.1 (headSpec [w] (am_rm G d σ)) (am_Pc G args σ) (fun _ _ _ _ _ => True) (am_Qx G Q (am_bc G - σ.2.1) (am_bs G - σ.2.2))
theorem am_body {Mc : am_M} {args0 : List Value} {S : Spec} {p : Program} {e : Env} {s : State} {m : MethodId} {args : Array Value} {below : List Frame} {meth : Method} {c : Code} {s₁ : State} (h : am_Wp G Mc 0 d L [] σ Q) (hent : am_ent 0 args0 L) (hln : (lg_sl args0).length ≤ Mc.2.2.1) (hS : S.room = am_rm G d σ) (B : BodyLoose p (am_l G) Mc.1 S Mc.2.1 Mc.2.2.1 Mc.2.2.2.1 e s m args below meth c s₁) (hml : c.maxLocals = Mc.2.2.1) (htab : c.exceptionTable.toList = tableOf Mc.2.2.2.2) (hP : am_Pc G args0 σ args s) :
    ∃ s₂ o, Steps p.tables e below (s₁.setTop (entryFrame m args Mc.2.2.1)) s₂ ∧ s₂.status = .running ∧ Ended s₂ below o ∧ am_Qx G Q (am_bc G - σ.2.1) (am_bs G - σ.2.2) args s o s₂ := by
  obtain ⟨rfl, hw, hK, hsK, hhK⟩ := hP
  have hh0 : s₁.heap = s.heap := by rw [B.state]; rfl
  have hl := lv_entry args0 hln
  have hcx : am_Cx G Mc d p (am_rm G d σ) s m meth c := by
    refine ⟨B.exec, B.bytes, B.returns, hml, findClass_of_methodNamed B.named, B.notSynchronized, (name_of_methodNamed B.named B.method).1, htab, ⟨Nat.le_refl _, Nat.le_refl _⟩, ?_, hK, hsK, hhK⟩
    have h1 : s.heap.size = σ.2.1 := hw.1
    have h2 : am_used (am_z G) s.heap = σ.2.2 := hw.2.1
    have h3 := hw.2.2.1
    have h4 := hw.2.2.2.1
    have h5 := hw.2.2.2.2.1
    show am_bc G ≤ s.heap.size + (am_bc G - σ.2.1) ∧ am_bs G ≤ am_used (am_z G) s.heap + (am_bs G - σ.2.2) ∧ am_z G ≤ s.heap.size
    generalize am_bc G = bc at h3 ⊢
    generalize am_bs G = bs at h4 ⊢
    generalize am_used (am_z G) s.heap = us at h2 ⊢
    generalize am_z G = z at h5 ⊢
    omega
  rw [lg_entry_eq]
  have hX : Stand p (am_l G) e (am_rm G d σ) s m args0.toArray below meth c s₁ [] 0 0 := by
    have := Stand.of_body B
    rw [hS] at this
    exact this
  obtain ⟨t, a1, o, b1, b2, b3⟩ := h p e (am_rm G d σ) s m args0.toArray below meth c s.heap [] 0 0 _ hcx hw (fun z hz => by cases hz) ⟨hl.1, hl.2.1, fun q hq => by
    obtain ⟨f1, f2⟩ := hent.has q hq
    exact ⟨hl.2.2 _ f1, f2⟩⟩ s₁ hh0 hX
  exact ⟨t, o, a1, b1, b2, b3⟩
theorem am_mt {Mc : am_M} {args0 : List Value} (h : am_Wp G Mc 0 d L [] σ Q) (hent : am_ent 0 args0 L) (hln : (lg_sl args0).length ≤ Mc.2.2.1) (hh : Mc.2.2.2.2 = []) (hpn : plainName Mc.1.cls = true) : am_Mt G Mc d (Cond.code Mc.1 Mc.2.1 Mc.2.2.1 Mc.2.2.2.1) args0 σ Q := by
  refine MetFree.of_bodyS (code := Mc.2.1) (maxLocals := Mc.2.2.1) (ret := Mc.2.2.2.1) hpn ?_ ?_
  · intro args s m h hn
    obtain ⟨meth, c, h1, h2, h3, h4, h5, h6, -, -⟩ := Cond.code_spec hn (atoms_spec (ws := [Cond.code Mc.1 Mc.2.1 Mc.2.2.1 Mc.2.2.2.1]) h _ List.mem_cons_self)
    exact ⟨meth, c, h1, h2, h3, h4, h5, h6⟩
  · intro p e s m args below meth c s₁ B hml hP _
    refine am_body h hent hln rfl B hml ?_ hP
    obtain ⟨meth9, c9, h1, h2, -, -, -, -, h7, -⟩ := Cond.code_spec B.named (atoms_spec (ws := [Cond.code Mc.1 Mc.2.1 Mc.2.2.1 Mc.2.2.2.1]) B.pre _ List.mem_cons_self)
    cases Option.some.inj (h1.symm.trans B.method)
    cases Option.some.inj (h2.symm.trans (Stand.of_body B).code)
    rw [hh]
    have h8 : c.exceptionTable = #[] := by simpa using h7
    rw [h8]
    rfl
theorem am_mtW {Mc : am_M} {args0 : List Value} (h : am_Wp G Mc 0 d L [] σ Q) (hent : am_ent 0 args0 L) (hln : (lg_sl args0).length ≤ Mc.2.2.1) (hpn : plainName Mc.1.cls = true) : am_Mt G Mc d (Cond.codeWith Mc.1 Mc.2.1 Mc.2.2.1 Mc.2.2.2.1 Mc.2.2.2.2) args0 σ Q := by
  refine MetFree.of_bodyS (code := Mc.2.1) (maxLocals := Mc.2.2.1) (ret := Mc.2.2.2.1) hpn ?_ ?_
  · intro args s m h hn
    obtain ⟨m9, meth, c, hn9, h1, h2, h3, h4, -, h5, h6, -⟩ := Cond.codeWith_spec (atoms_spec (ws := [Cond.codeWith Mc.1 Mc.2.1 Mc.2.2.1 Mc.2.2.2.1 Mc.2.2.2.2]) h _ List.mem_cons_self)
    cases hn.symm.trans hn9
    exact ⟨meth, c, h1, h2, h3, h4, h5, h6⟩
  · intro p e s m args below meth c s₁ B hml hP _
    exact am_body h hent hln rfl B hml (vx_table (x := Mc.1) B (atoms_spec (ws := [Cond.codeWith Mc.1 Mc.2.1 Mc.2.2.1 Mc.2.2.2.1 Mc.2.2.2.2]) B.pre _ List.mem_cons_self)) hP
end
