set_option maxRecDepth 100000
/-! ===== private methods, super's methods ===== -/
section
variable {G : am_G} {M : am_M} {pc d : Nat} {L : List (Nat × Value)} {rest : List Value} {σ : am_S} {Q : am_R → am_S → Prop}
/-- follows vx_callV of laws/EXCEPTIONS; a private method is its own selection -/
theorem am_callPX {p : Program} {l : Launch} {e : Env} {R : Room} {s : State} {m : MethodId} {args : Array Value} {below : List Frame} {meth : Method} {c : Code} {T : State} {locs : List Loc} {cells slots : Nat} (X : Stand p l e R s m args below meth c T locs cells slots) (hexec : p.tables.exec = Jvm.exec) {own : String} {index : Nat} {y : MethodName} {bytes : ByteArray} {maxL : Nat} {ret : Option FieldType}
    (hown : s.vm.findClass own = some m.cls) (hlink : (Cond.methodLink own index y).before args s = true) (hinst : (Cond.instanceMethod y).before args s = true) (hpriv : (Cond.privateMethod y).before args s = true) {C9 : String} {y9 : MethodName} (hsel : (Cond.selects C9 y9 y9).before args s = true) (hy9 : y9.cls = y.cls)
    (hcode : (Cond.code y bytes maxL ret).before args s = true) (hy : y.cls ≠ "java/lang/invoke/MethodHandle" ∧ y.cls ≠ "java/lang/invoke/VarHandle")
    {W9 : Nat} {Pre : Pt → Array Value → Prop} {Post : Pt → Array Value → Option Value → Pt → Prop} {PostX : Pt → Array Value → Addr → Pt → Prop} (hK : vx_Back l R p e below s args y 3 W9 Pre Post PostX)
    {b : Addr} {cellB : Cell} (hcell : T.heap[b]? = some cellB) (hobj : cellB.vm.isStatics = false)
    {g : JFrame} (hg : g.method = m) (hsize : g.locals.size = c.maxLocals) {argsL rest : List Value} (hlen : ∀ sig, parseMethodDescriptor y.desc = some sig → argsL.length = sig.parameters.length)
    (hstack : g.stack = argsL.reverse ++ .ref b :: rest) (hW : 2 * g.monitorRoom + (rest.map fun v => v.category).sum ≤ W9) (hdg : decode c.code g.pc = .ok (.invokevirtual index, 3))
    (hpre : ∀ vm₁, s.WarmedH vm₁ → Pre ⟨T.setVm vm₁, locs, cells, slots⟩ (Value.ref b :: argsL).toArray) :
    (∃ (v : Option Value) (vm₁ : Vm) (B : Pt), s.WarmedH vm₁ ∧ Stand p l e R s m args below meth c B.U B.locs B.cells B.slots ∧ Post ⟨T.setVm vm₁, locs, cells, slots⟩ (Value.ref b :: argsL).toArray v B ∧
      ∀ target, Steps p.tables e below (B.U.setTop { g with pc := g.pc + 3, stack := v.toList ++ rest }) target → Steps p.tables e below (T.setTop g) target) ∨
    (∃ (q : Addr) (vm₁ : Vm) (B : Pt), s.WarmedH vm₁ ∧ Stand p l e R s m args below meth c B.U B.locs B.cells B.slots ∧ PostX ⟨T.setVm vm₁, locs, cells, slots⟩ (Value.ref b :: argsL).toArray q B ∧
      Steps p.tables e below (T.setTop g) ((B.U.setTop { g with stack := rest }).pushFrame (.throwing q))) := by
  obtain ⟨mk, methM, hnamed, hmethM, hstM, habM⟩ := Cond.instanceMethod_spec hinst
  obtain ⟨methM', cM, hmethM', -, -, -, -, -, -, hsigM⟩ := Cond.code_spec hnamed hcode
  cases hmethM.symm.trans hmethM'
  obtain ⟨c2, r2, m2, q1, q2, q3, q4, kP, hkP, hkPi⟩ := Cond.selects_spec hsel
  have e9 : mk.cls = m2.cls := Option.some.inj ((findClass_of_methodNamed hnamed).symm.trans (by rw [← hy9]; exact findClass_of_methodNamed q3))
  rw [← e9] at hkP
  have hselP : selectMethod e.platform s.vm cellB.cls mk = .method mk := selectMethod_private hmethM (Cond.privateMethod_at hpriv mk methM hnamed hmethM)
  obtain ⟨vm₁, X₁, hstep₁⟩ := X.invokevirtual hexec hown hlink hnamed hmethM hstM hkP hkPi hy (a := b) (cell := cellB) hcell
    (fun z h => by rw [h] at hobj; cases hobj) hselP hmethM habM hkP hkPi (g := g) hg (argsL := argsL) (rest := rest) (hlen _ hsigM) hstack hdg
  rcases hK m meth c ⟨T.setVm vm₁, locs, cells, slots⟩ { g with stack := rest } (.invokevirtual index) mk (Value.ref b :: argsL).toArray X₁ hg hsize hdg hW (X₁.named hnamed) (hpre vm₁ X₁.warmed) with ⟨v, B, X', hpost, hsteps⟩ | ⟨q, B, X', hpost, hsteps⟩
  · exact Or.inl ⟨v, vm₁, B, X₁.warmed, X', hpost, fun target h => hstep₁ _ fun acts => by rw [doInvoke_state]; exact hsteps.trans h⟩
  · exact Or.inr ⟨q, vm₁, B, X₁.warmed, X', hpost, hstep₁ _ fun acts => by rw [doInvoke_state]; exact hsteps⟩
theorem am_callP {Mc : am_M} {index : Nat} {as : List Value} {ci b : Nat} {Cn C9 : String} {y9 : MethodName} {T : u_T} {N : Nat} {ty : Nat → FieldType} {f : Nat → Value} (hI : am_inf ci Cn T N ty) (he : σ.1 b = some (.inr (ci, f))) (hM : am_Mt G Mc d (Cond.code Mc.1 Mc.2.1 Mc.2.2.1 Mc.2.2.2.1) (.ref b :: as) σ (am_K2 G M pc (d + 1) L rest Q)) (hlink : Cond.methodLink M.1.cls index Mc.1 ∈ lw_all) (hinst : Cond.instanceMethod Mc.1 ∈ lw_all) (hpriv : Cond.privateMethod Mc.1 ∈ lw_tbl) (hsel : Cond.selects C9 y9 y9 ∈ lw_all) (hy9 : y9.cls = Mc.1.cls) (hini : Cond.initialized Mc.1.cls ∈ lw_all) (hcode : Cond.code Mc.1 Mc.2.1 Mc.2.2.1 Mc.2.2.2.1 ∈ lw_all) (hn : (parseMethodDescriptor Mc.1.desc).map (fun d => d.parameters.length) = some as.length) (hmx : Mc.2.2.1 ≤ 37) (hst : rest.length ≤ 8) (hy : Mc.1.cls ≠ "java/lang/invoke/MethodHandle" ∧ Mc.1.cls ≠ "java/lang/invoke/VarHandle") (hdg : decode M.2.1 pc = .ok (.invokevirtual index, 3)) : am_Wp G M pc (d + 1) L (as.reverse ++ .ref b :: rest) σ Q := by
  intro p e R s m args below meth c H locs cells slots ls C hw hA hl T0 hT X
  subst hT
  have C0 := C
  obtain ⟨hx, hb, hr, hml, hown, hlocks, hname, htab, hfr, hroom, ⟨hoK, haK, hwK⟩, hsK, hhK⟩ := C
  have hts : ∀ w ∈ lw_all, w.before args s = true := fun w h => hwK.1 w h args
  have hgo : ∀ w ∈ lw_all, ∀ (a : Array Value) (U : State), s.WarmedH U.vm → w.before a U = true := fun w hw a U hW => word_at hW (lw_self w hw).2 (hwK.1 w hw #[])
  have hK : vx_Back (am_l G) R p e below s args Mc.1 3 16 (am_Pre G R (.ref b :: as) σ) (am_Po G (am_K2 G M pc (d + 1) L rest Q)) (am_Px G (am_K2 G M pc (d + 1) L rest Q)) := am_back hM hfr.1 (by have := hfr.2; omega) (hgo _ hcode) (am_specC (hgo _ hcode)) (hgo _ hini)
  obtain ⟨cellB, hcB, hoB, hclB⟩ := am_recv hoK hw hI he
  exact am_behind C0 hA hl (am_callPX (am_tight X) hx hown (hts _ hlink) (hts _ hinst) (Cond.privateMethod_warm (State.WarmedH.refl s) (hwK.2 _ hpriv rfl)) (hts _ hsel) hy9 (hts _ hcode) hy hK hcB hoB (g := F0 m pc ls _) rfl (hl.1.trans hml.symm) (argsL := as) (rest := rest) (am_len hn) rfl (am_mon _ _ _ _ _ hst) (by rw [hb]; exact hdg) (fun vm₁ hW₁ => am_pre (R0 := R) X C0 hA hw vm₁ hW₁))
theorem am_callSup {Mc : am_M} {index : Nat} {as : List Value} {ci b : Nat} {Cn : String} {T : u_T} {N : Nat} {ty : Nat → FieldType} {f : Nat → Value} (hI : am_inf ci Cn T N ty) (he : σ.1 b = some (.inr (ci, f))) (hM : am_Mt G Mc d (Cond.code Mc.1 Mc.2.1 Mc.2.2.1 Mc.2.2.2.1) (.ref b :: as) σ (am_K2 G M pc (d + 1) L rest Q)) (hlink : Cond.methodLink M.1.cls index Mc.1 ∈ lw_all) (hsame : Cond.sameMethod Mc.1.cls Mc.1.cls Mc.1.name Mc.1.desc ∈ lw_all) (hsup : Cond.superclass M.1.cls Mc.1.cls ∈ lw_all) (hinst : Cond.instanceMethod Mc.1 ∈ lw_all) (hno : Mc.1.name ≠ "<init>") (hini : Cond.initialized Mc.1.cls ∈ lw_all) (hcode : Cond.code Mc.1 Mc.2.1 Mc.2.2.1 Mc.2.2.2.1 ∈ lw_all) (hn : (parseMethodDescriptor Mc.1.desc).map (fun d => d.parameters.length) = some as.length) (hmx : Mc.2.2.1 ≤ 37) (hst : rest.length ≤ 8) (hdg : decode M.2.1 pc = .ok (.invokespecial index, 3)) : am_Wp G M pc (d + 1) L (as.reverse ++ .ref b :: rest) σ Q := by
  intro p e R s m args below meth c H locs cells slots ls C hw hA hl T0 hT X
  subst hT
  have C0 := C
  obtain ⟨hx, hb, hr, hml, hown, hlocks, hname, htab, hfr, hroom, ⟨hoK, haK, hwK⟩, hsK, hhK⟩ := C
  have hts : ∀ w ∈ lw_all, w.before args s = true := fun w h => hwK.1 w h args
  have hgo : ∀ w ∈ lw_all, ∀ (a : Array Value) (U : State), s.WarmedH U.vm → w.before a U = true := fun w hw a U hW => word_at hW (lw_self w hw).2 (hwK.1 w hw #[])
  have hK : vx_Back (am_l G) R p e below s args Mc.1 3 16 (am_Pre G R (.ref b :: as) σ) (am_Po G (am_K2 G M pc (d + 1) L rest Q)) (am_Px G (am_K2 G M pc (d + 1) L rest Q)) := am_back hM hfr.1 (by have := hfr.2; omega) (hgo _ hcode) (am_specC (hgo _ hcode)) (hgo _ hini)
  obtain ⟨cellB, hcB, hoB, hclB⟩ := am_recv hoK hw hI he
  obtain ⟨kB, hkB, -⟩ := Vm.findClass_spec hclB
  exact am_behind C0 hA hl (vx_callSU (am_tight X) hx hown (hts _ hlink) (hts _ hsame) (hts _ hsup) (hts _ hinst) (hts _ hcode) hno hK hcB hoB hkB (g := F0 m pc ls _) rfl (hl.1.trans hml.symm) (argsL := as) (rest := rest) (am_len hn) rfl (am_mon _ _ _ _ _ hst) (by rw [hb]; exact hdg) (fun vm₁ hW₁ => am_pre (R0 := R) X C0 hA hw vm₁ hW₁))
end
