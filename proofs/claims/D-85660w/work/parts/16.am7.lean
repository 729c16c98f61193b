set_option maxRecDepth 100000
/-! ===== am_: calls, one law a kind ===== -/
theorem am_mon (m : MethodId) (pc : Nat) (ls : Array Slot) (st rest : List Value) (h : rest.length ≤ 8) : 2 * (F0 m pc ls st).monitorRoom + (rest.map fun v => v.category).sum ≤ 16 := by
  have h1 : (F0 m pc ls st).monitorRoom = 0 := rfl
  rw [h1]
  have h2 : (rest.map fun v => v.category).sum ≤ 2 * rest.length := by
    clear h
    induction rest with
    | nil => simp
    | cons v r ih =>
      have hv : v.category ≤ 2 := by cases v <;> simp [Value.category]
      simp only [List.map_cons, List.sum_cons, List.length_cons]
      omega
  omega
theorem am_len {desc : String} {n : Nat} (h : (parseMethodDescriptor desc).map (fun d => d.parameters.length) = some n) : ∀ sig, parseMethodDescriptor desc = some sig → n = sig.parameters.length := by
  intro sig h2
  rw [h2] at h
  exact (Option.some.inj h).symm
theorem am_specC {s : State} {y : MethodName} {b : ByteArray} {k : Nat} {r : Option FieldType} (h : ∀ (a : Array Value) (U : State), s.WarmedH U.vm → (Cond.code y b k r).before a U = true) : ∀ (U : State) (mk : MethodId), s.WarmedH U.vm → U.methodNamed? y = some mk → ∃ methY cY, U.vm.method? mk = some methY ∧ methY.code = some cY ∧ cY.maxLocals = k := by
  intro U mk hW hn
  obtain ⟨methY, cY, hmY, hcY, -, hlY, -, -, -, -⟩ := Cond.code_spec hn (h #[] U hW)
  exact ⟨methY, cY, hmY, hcY, hlY⟩
theorem am_specW {s : State} {y : MethodName} {b : ByteArray} {k : Nat} {r : Option FieldType} {hh : List (Nat × Nat × Nat × Nat)} (h : ∀ (a : Array Value) (U : State), s.WarmedH U.vm → (Cond.codeWith y b k r hh).before a U = true) : ∀ (U : State) (mk : MethodId), s.WarmedH U.vm → U.methodNamed? y = some mk → ∃ methY cY, U.vm.method? mk = some methY ∧ methY.code = some cY ∧ cY.maxLocals = k := by
  intro U mk hW hn
  obtain ⟨m9, methY, cY, hn9, hmY, hcY, -, hlY, -⟩ := Cond.codeWith_spec (h #[] U hW)
  cases Option.some.inj (hn.symm.trans hn9)
  exact ⟨methY, cY, hmY, hcY, hlY⟩
theorem am_recv {G : am_G} {s : State} {H : Heap} {σ : am_S} {b ci : Nat} {Cn : String} {T : u_T} {N : Nat} {ty : Nat → FieldType} {f : Nat → Value} (hoK : am_oK G s) (hw : am_hw G σ H) (hI : am_inf ci Cn T N ty) (hb : σ.1 b = some (.inr (ci, f))) : ∃ cell : Cell, H[b]? = some cell ∧ cell.vm.isStatics = false ∧ s.vm.findClass Cn = some cell.cls := by
  obtain ⟨-, r, h1, cell, q1, q2, q3, -⟩ := hw.2.2.2.2.2 b _ hb
  have hr1 : r = (Cn, T, N) := Option.some.inj (h1.symm.trans hI.1)
  subst hr1
  exact ⟨cell, q1, by rw [q3]; rfl, by rw [q2]; exact (hoK ci _ hI.1).2.1⟩
section
variable {G : am_G} {M : am_M} {pc d : Nat} {L : List (Nat × Value)} {rest : List Value} {σ : am_S} {Q : am_R → am_S → Prop}
theorem am_callV {Mc : am_M} {index : Nat} {as : List Value} {ci b : Nat} {Cn : String} {T : u_T} {N : Nat} {ty : Nat → FieldType} {f : Nat → Value} (hI : am_inf ci Cn T N ty) (he : σ.1 b = some (.inr (ci, f))) (hM : am_Mt G Mc d (Cond.code Mc.1 Mc.2.1 Mc.2.2.1 Mc.2.2.2.1) (.ref b :: as) σ (am_K2 G M pc (d + 1) L rest Q)) (hlink : Cond.methodLink M.1.cls index Mc.1 ∈ lw_all) (hinst : Cond.instanceMethod Mc.1 ∈ lw_all) (hsel : Cond.selects Cn Mc.1 Mc.1 ∈ lw_all) (hini : Cond.initialized Mc.1.cls ∈ lw_all) (hcode : Cond.code Mc.1 Mc.2.1 Mc.2.2.1 Mc.2.2.2.1 ∈ lw_all) (hn : (parseMethodDescriptor Mc.1.desc).map (fun d => d.parameters.length) = some as.length) (hmx : Mc.2.2.1 ≤ 37) (hst : rest.length ≤ 8) (hy : Mc.1.cls ≠ "java/lang/invoke/MethodHandle" ∧ Mc.1.cls ≠ "java/lang/invoke/VarHandle") (hdg : decode M.2.1 pc = .ok (.invokevirtual index, 3)) : am_Wp G M pc (d + 1) L (as.reverse ++ .ref b :: rest) σ Q := by
  intro p e R s m args below meth c H locs cells slots ls C hw hA hl T0 hT X
  subst hT
  have C0 := C
  obtain ⟨hx, hb, hr, hml, hown, hlocks, hname, htab, hfr, hroom, ⟨hoK, haK, hwK⟩, hsK, hhK⟩ := C
  have hts : ∀ w ∈ lw_all, w.before args s = true := fun w h => hwK.1 w h args
  have hgo : ∀ w ∈ lw_all, ∀ (a : Array Value) (U : State), s.WarmedH U.vm → w.before a U = true := fun w hw a U hW => word_at hW (lw_self w hw).2 (hwK.1 w hw #[])
  have hK : vx_Back (am_l G) R p e below s args Mc.1 3 16 (am_Pre G R (.ref b :: as) σ) (am_Po G (am_K2 G M pc (d + 1) L rest Q)) (am_Px G (am_K2 G M pc (d + 1) L rest Q)) := am_back hM hfr.1 (by have := hfr.2; omega) (hgo _ hcode) (am_specC (hgo _ hcode)) (hgo _ hini)
  obtain ⟨cellB, hcB, hoB, hclB⟩ := am_recv hoK hw hI he
  exact am_behind C0 hA hl (vx_callV (am_tight X) hx hown (hts _ hlink) (hts _ hinst) (hts _ hsel) (hts _ hcode) hy hK hcB hoB hclB (g := F0 m pc ls _) rfl (hl.1.trans hml.symm) (argsL := as) (rest := rest) (am_len hn) rfl (am_mon _ _ _ _ _ hst) (by rw [hb]; exact hdg) (fun vm₁ hW₁ => am_pre (R0 := R) X C0 hA hw vm₁ hW₁))
theorem am_callVX {Mc : am_M} {index : Nat} {as : List Value} {ci b : Nat} {Cn : String} {T : u_T} {N : Nat} {ty : Nat → FieldType} {f : Nat → Value} (hI : am_inf ci Cn T N ty) (he : σ.1 b = some (.inr (ci, f))) (hM : am_Mt G Mc d (Cond.codeWith Mc.1 Mc.2.1 Mc.2.2.1 Mc.2.2.2.1 Mc.2.2.2.2) (.ref b :: as) σ (am_K2 G M pc (d + 1) L rest Q)) (hlink : Cond.methodLink M.1.cls index Mc.1 ∈ lw_all) (hinst : Cond.instanceMethod Mc.1 ∈ lw_all) (hsel : Cond.selects Cn Mc.1 Mc.1 ∈ lw_all) (hini : Cond.initialized Mc.1.cls ∈ lw_all) (hcode : Cond.codeWith Mc.1 Mc.2.1 Mc.2.2.1 Mc.2.2.2.1 Mc.2.2.2.2 ∈ lw_all) (hn : (parseMethodDescriptor Mc.1.desc).map (fun d => d.parameters.length) = some as.length) (hmx : Mc.2.2.1 ≤ 37) (hst : rest.length ≤ 8) (hy : Mc.1.cls ≠ "java/lang/invoke/MethodHandle" ∧ Mc.1.cls ≠ "java/lang/invoke/VarHandle") (hdg : decode M.2.1 pc = .ok (.invokevirtual index, 3)) : am_Wp G M pc (d + 1) L (as.reverse ++ .ref b :: rest) σ Q := by
  intro p e R s m args below meth c H locs cells slots ls C hw hA hl T0 hT X
  subst hT
  have C0 := C
  obtain ⟨hx, hb, hr, hml, hown, hlocks, hname, htab, hfr, hroom, ⟨hoK, haK, hwK⟩, hsK, hhK⟩ := C
  have hts : ∀ w ∈ lw_all, w.before args s = true := fun w h => hwK.1 w h args
  have hgo : ∀ w ∈ lw_all, ∀ (a : Array Value) (U : State), s.WarmedH U.vm → w.before a U = true := fun w hw a U hW => word_at hW (lw_self w hw).2 (hwK.1 w hw #[])
  have hK : vx_Back (am_l G) R p e below s args Mc.1 3 16 (am_Pre G R (.ref b :: as) σ) (am_Po G (am_K2 G M pc (d + 1) L rest Q)) (am_Px G (am_K2 G M pc (d + 1) L rest Q)) := am_back hM hfr.1 (by have := hfr.2; omega) (hgo _ hcode) (am_specW (hgo _ hcode)) (hgo _ hini)
  obtain ⟨cellB, hcB, hoB, hclB⟩ := am_recv hoK hw hI he
  exact am_behind C0 hA hl (vx_callVX (am_tight X) hx hown (hts _ hlink) (hts _ hinst) (hts _ hsel) (hts _ hcode) hy hK hcB hoB hclB (g := F0 m pc ls _) rfl (hl.1.trans hml.symm) (argsL := as) (rest := rest) (am_len hn) rfl (am_mon _ _ _ _ _ hst) (by rw [hb]; exact hdg) (fun vm₁ hW₁ => am_pre (R0 := R) X C0 hA hw vm₁ hW₁))
theorem am_callVN {Mc : am_M} {index : Nat} {as : List Value} {ci b : Nat} {Cn : String} {T : u_T} {N : Nat} {ty : Nat → FieldType} {f : Nat → Value} {host : String} (hI : am_inf ci Cn T N ty) (he : σ.1 b = some (.inr (ci, f))) (hM : am_Mt G Mc d (Cond.code Mc.1 Mc.2.1 Mc.2.2.1 Mc.2.2.2.1) (.ref b :: as) σ (am_K2 G M pc (d + 1) L rest Q)) (hlink : Cond.methodLinkNest M.1.cls index Mc.1 host ∈ lw_tbl) (hinst : Cond.instanceMethod Mc.1 ∈ lw_all) (hsel : Cond.selects Cn Mc.1 Mc.1 ∈ lw_all) (hini : Cond.initialized Mc.1.cls ∈ lw_all) (hcode : Cond.code Mc.1 Mc.2.1 Mc.2.2.1 Mc.2.2.2.1 ∈ lw_all) (hn : (parseMethodDescriptor Mc.1.desc).map (fun d => d.parameters.length) = some as.length) (hmx : Mc.2.2.1 ≤ 37) (hst : rest.length ≤ 8) (hy : Mc.1.cls ≠ "java/lang/invoke/MethodHandle" ∧ Mc.1.cls ≠ "java/lang/invoke/VarHandle") (hdg : decode M.2.1 pc = .ok (.invokevirtual index, 3)) : am_Wp G M pc (d + 1) L (as.reverse ++ .ref b :: rest) σ Q := by
  intro p e R s m args below meth c H locs cells slots ls C hw hA hl T0 hT X
  subst hT
  have C0 := C
  obtain ⟨hx, hb, hr, hml, hown, hlocks, hname, htab, hfr, hroom, ⟨hoK, haK, hwK⟩, hsK, hhK⟩ := C
  have hts : ∀ w ∈ lw_all, w.before args s = true := fun w h => hwK.1 w h args
  have hgo : ∀ w ∈ lw_all, ∀ (a : Array Value) (U : State), s.WarmedH U.vm → w.before a U = true := fun w hw a U hW => word_at hW (lw_self w hw).2 (hwK.1 w hw #[])
  have hK : vx_Back (am_l G) R p e below s args Mc.1 3 16 (am_Pre G R (.ref b :: as) σ) (am_Po G (am_K2 G M pc (d + 1) L rest Q)) (am_Px G (am_K2 G M pc (d + 1) L rest Q)) := am_back hM hfr.1 (by have := hfr.2; omega) (hgo _ hcode) (am_specC (hgo _ hcode)) (hgo _ hini)
  obtain ⟨cellB, hcB, hoB, hclB⟩ := am_recv hoK hw hI he
  exact am_behind C0 hA hl (vx_callVN (am_tight X) hx hown (va_Nw.use rfl (hwK.2 _ hlink rfl)) (hts _ hinst) (hts _ hsel) (hts _ hcode) hy hK hcB hoB hclB (g := F0 m pc ls _) rfl (hl.1.trans hml.symm) (argsL := as) (rest := rest) (am_len hn) rfl (am_mon _ _ _ _ _ hst) (by rw [hb]; exact hdg) (fun vm₁ hW₁ => am_pre (R0 := R) X C0 hA hw vm₁ hW₁))
theorem am_callVU {Mc : am_M} {index : Nat} {as : List Value} {ci b : Nat} {Cn : String} {T : u_T} {N : Nat} {ty : Nat → FieldType} {f : Nat → Value} {owner : String} {x : MethodName} (hI : am_inf ci Cn T N ty) (he : σ.1 b = some (.inr (ci, f))) (hM : am_Mt G Mc d (Cond.code Mc.1 Mc.2.1 Mc.2.2.1 Mc.2.2.2.1) (.ref b :: as) σ (am_K2 G M pc (d + 1) L rest Q)) (hlink : Cond.methodLink M.1.cls index x ∈ lw_all) (hsame : Cond.sameMethod x.cls owner x.name x.desc ∈ lw_all) (hdecl : Cond.declares ⟨owner, x.name, x.desc⟩ ∈ lw_tbl) (hinst : Cond.instanceMethod Mc.1 ∈ lw_all) (hsel : Cond.selects Cn x Mc.1 ∈ lw_all) (hxd : x.desc = Mc.1.desc) (hini : Cond.initialized Mc.1.cls ∈ lw_all) (hcode : Cond.code Mc.1 Mc.2.1 Mc.2.2.1 Mc.2.2.2.1 ∈ lw_all) (hn : (parseMethodDescriptor Mc.1.desc).map (fun d => d.parameters.length) = some as.length) (hmx : Mc.2.2.1 ≤ 37) (hst : rest.length ≤ 8) (hy : owner ≠ "java/lang/invoke/MethodHandle" ∧ owner ≠ "java/lang/invoke/VarHandle") (hdg : decode M.2.1 pc = .ok (.invokevirtual index, 3)) : am_Wp G M pc (d + 1) L (as.reverse ++ .ref b :: rest) σ Q := by
  intro p e R s m args below meth c H locs cells slots ls C hw hA hl T0 hT X
  subst hT
  have C0 := C
  obtain ⟨hx, hb, hr, hml, hown, hlocks, hname, htab, hfr, hroom, ⟨hoK, haK, hwK⟩, hsK, hhK⟩ := C
  have hts : ∀ w ∈ lw_all, w.before args s = true := fun w h => hwK.1 w h args
  have hgo : ∀ w ∈ lw_all, ∀ (a : Array Value) (U : State), s.WarmedH U.vm → w.before a U = true := fun w hw a U hW => word_at hW (lw_self w hw).2 (hwK.1 w hw #[])
  have hK : vx_Back (am_l G) R p e below s args Mc.1 3 16 (am_Pre G R (.ref b :: as) σ) (am_Po G (am_K2 G M pc (d + 1) L rest Q)) (am_Px G (am_K2 G M pc (d + 1) L rest Q)) := am_back hM hfr.1 (by have := hfr.2; omega) (hgo _ hcode) (am_specC (hgo _ hcode)) (hgo _ hini)
  obtain ⟨cellB, hcB, hoB, hclB⟩ := am_recv hoK hw hI he
  exact am_behind C0 hA hl (vx_callVU (am_tight X) hx (C := Cn) hown (hts _ hlink) (hts _ hsame) (va_Decl.abs (hwK.2 _ hdecl rfl)) hy (hts _ hsel) (hts _ hinst) (hts _ hcode) hK hcB hoB hclB (g := F0 m pc ls _) rfl (hl.1.trans hml.symm) (argsL := as) (rest := rest) (by rw [hxd]; exact am_len hn) rfl (am_mon _ _ _ _ _ hst) (by rw [hb]; exact hdg) (fun vm₁ hW₁ => am_pre (R0 := R) X C0 hA hw vm₁ hW₁))
theorem am_callVO {Mc : am_M} {index : Nat} {as : List Value} {ci b : Nat} {Cn : String} {T : u_T} {N : Nat} {ty : Nat → FieldType} {f : Nat → Value} {owner : String} {x : MethodName} {b0 : ByteArray} {m0 : Nat} {r0 : Option FieldType} (hI : am_inf ci Cn T N ty) (he : σ.1 b = some (.inr (ci, f))) (hM : am_Mt G Mc d (Cond.code Mc.1 Mc.2.1 Mc.2.2.1 Mc.2.2.2.1) (.ref b :: as) σ (am_K2 G M pc (d + 1) L rest Q)) (hlink : Cond.methodLink M.1.cls index x ∈ lw_all) (hsame : Cond.sameMethod x.cls owner x.name x.desc ∈ lw_all) (hdecl : Cond.instanceMethod ⟨owner, x.name, x.desc⟩ ∈ lw_all) (hdecl2 : Cond.code ⟨owner, x.name, x.desc⟩ b0 m0 r0 ∈ lw_all) (hinst : Cond.instanceMethod Mc.1 ∈ lw_all) (hsel : Cond.selects Cn x Mc.1 ∈ lw_all) (hxd : x.desc = Mc.1.desc) (hini : Cond.initialized Mc.1.cls ∈ lw_all) (hcode : Cond.code Mc.1 Mc.2.1 Mc.2.2.1 Mc.2.2.2.1 ∈ lw_all) (hn : (parseMethodDescriptor Mc.1.desc).map (fun d => d.parameters.length) = some as.length) (hmx : Mc.2.2.1 ≤ 37) (hst : rest.length ≤ 8) (hy : owner ≠ "java/lang/invoke/MethodHandle" ∧ owner ≠ "java/lang/invoke/VarHandle") (hdg : decode M.2.1 pc = .ok (.invokevirtual index, 3)) : am_Wp G M pc (d + 1) L (as.reverse ++ .ref b :: rest) σ Q := by
  intro p e R s m args below meth c H locs cells slots ls C hw hA hl T0 hT X
  subst hT
  have C0 := C
  obtain ⟨hx, hb, hr, hml, hown, hlocks, hname, htab, hfr, hroom, ⟨hoK, haK, hwK⟩, hsK, hhK⟩ := C
  have hts : ∀ w ∈ lw_all, w.before args s = true := fun w h => hwK.1 w h args
  have hgo : ∀ w ∈ lw_all, ∀ (a : Array Value) (U : State), s.WarmedH U.vm → w.before a U = true := fun w hw a U hW => word_at hW (lw_self w hw).2 (hwK.1 w hw #[])
  have hK : vx_Back (am_l G) R p e below s args Mc.1 3 16 (am_Pre G R (.ref b :: as) σ) (am_Po G (am_K2 G M pc (d + 1) L rest Q)) (am_Px G (am_K2 G M pc (d + 1) L rest Q)) := am_back hM hfr.1 (by have := hfr.2; omega) (hgo _ hcode) (am_specC (hgo _ hcode)) (hgo _ hini)
  obtain ⟨cellB, hcB, hoB, hclB⟩ := am_recv hoK hw hI he
  exact am_behind C0 hA hl (vx_callVU (am_tight X) hx (C := Cn) hown (hts _ hlink) (hts _ hsame) (va_Decl.of (hts _ hdecl) (hts _ hdecl2)) hy (hts _ hsel) (hts _ hinst) (hts _ hcode) hK hcB hoB hclB (g := F0 m pc ls _) rfl (hl.1.trans hml.symm) (argsL := as) (rest := rest) (by rw [hxd]; exact am_len hn) rfl (am_mon _ _ _ _ _ hst) (by rw [hb]; exact hdg) (fun vm₁ hW₁ => am_pre (R0 := R) X C0 hA hw vm₁ hW₁))
theorem am_callS {Mc : am_M} {index : Nat} {as : List Value} (hM : am_Mt G Mc d (Cond.code Mc.1 Mc.2.1 Mc.2.2.1 Mc.2.2.2.1) as σ (am_K2 G M pc (d + 1) L rest Q)) (hlink : Cond.methodLink M.1.cls index Mc.1 ∈ lw_all) (hstat : Cond.static Mc.1 ∈ lw_all) (hini : Cond.initialized Mc.1.cls ∈ lw_all) (hcode : Cond.code Mc.1 Mc.2.1 Mc.2.2.1 Mc.2.2.2.1 ∈ lw_all) (hn : (parseMethodDescriptor Mc.1.desc).map (fun d => d.parameters.length) = some as.length) (hmx : Mc.2.2.1 ≤ 37) (hst : rest.length ≤ 8) (hy : Mc.1.cls ≠ "java/lang/invoke/MethodHandle" ∧ Mc.1.cls ≠ "java/lang/invoke/VarHandle") (hdg : decode M.2.1 pc = .ok (.invokestatic index, 3)) : am_Wp G M pc (d + 1) L (as.reverse ++ rest) σ Q := by
  intro p e R s m args below meth c H locs cells slots ls C hw hA hl T0 hT X
  subst hT
  have C0 := C
  obtain ⟨hx, hb, hr, hml, hown, hlocks, hname, htab, hfr, hroom, ⟨hoK, haK, hwK⟩, hsK, hhK⟩ := C
  have hts : ∀ w ∈ lw_all, w.before args s = true := fun w h => hwK.1 w h args
  have hgo : ∀ w ∈ lw_all, ∀ (a : Array Value) (U : State), s.WarmedH U.vm → w.before a U = true := fun w hw a U hW => word_at hW (lw_self w hw).2 (hwK.1 w hw #[])
  have hK : vx_Back (am_l G) R p e below s args Mc.1 3 16 (am_Pre G R as σ) (am_Po G (am_K2 G M pc (d + 1) L rest Q)) (am_Px G (am_K2 G M pc (d + 1) L rest Q)) := am_back hM hfr.1 (by have := hfr.2; omega) (hgo _ hcode) (am_specC (hgo _ hcode)) (hgo _ hini)
  exact am_behind C0 hA hl (vx_callS (am_tight X) hx hown (hts _ hlink) (hts _ hstat) (hts _ hini) (hts _ hcode) hy hK (g := F0 m pc ls _) rfl (hl.1.trans hml.symm) (argsL := as) (rest := rest) (am_len hn) rfl (am_mon _ _ _ _ _ hst) (by rw [hb]; exact hdg) (fun vm₁ hW₁ => am_pre (R0 := R) X C0 hA hw vm₁ hW₁))
theorem am_callSN {Mc : am_M} {index : Nat} {as : List Value} {host : String} (hM : am_Mt G Mc d (Cond.code Mc.1 Mc.2.1 Mc.2.2.1 Mc.2.2.2.1) as σ (am_K2 G M pc (d + 1) L rest Q)) (hlink : Cond.methodLinkNest M.1.cls index Mc.1 host ∈ lw_tbl) (hstat : Cond.static Mc.1 ∈ lw_all) (hini : Cond.initialized Mc.1.cls ∈ lw_all) (hcode : Cond.code Mc.1 Mc.2.1 Mc.2.2.1 Mc.2.2.2.1 ∈ lw_all) (hn : (parseMethodDescriptor Mc.1.desc).map (fun d => d.parameters.length) = some as.length) (hmx : Mc.2.2.1 ≤ 37) (hst : rest.length ≤ 8) (hy : Mc.1.cls ≠ "java/lang/invoke/MethodHandle" ∧ Mc.1.cls ≠ "java/lang/invoke/VarHandle") (hdg : decode M.2.1 pc = .ok (.invokestatic index, 3)) : am_Wp G M pc (d + 1) L (as.reverse ++ rest) σ Q := by
  intro p e R s m args below meth c H locs cells slots ls C hw hA hl T0 hT X
  subst hT
  have C0 := C
  obtain ⟨hx, hb, hr, hml, hown, hlocks, hname, htab, hfr, hroom, ⟨hoK, haK, hwK⟩, hsK, hhK⟩ := C
  have hts : ∀ w ∈ lw_all, w.before args s = true := fun w h => hwK.1 w h args
  have hgo : ∀ w ∈ lw_all, ∀ (a : Array Value) (U : State), s.WarmedH U.vm → w.before a U = true := fun w hw a U hW => word_at hW (lw_self w hw).2 (hwK.1 w hw #[])
  have hK : vx_Back (am_l G) R p e below s args Mc.1 3 16 (am_Pre G R as σ) (am_Po G (am_K2 G M pc (d + 1) L rest Q)) (am_Px G (am_K2 G M pc (d + 1) L rest Q)) := am_back hM hfr.1 (by have := hfr.2; omega) (hgo _ hcode) (am_specC (hgo _ hcode)) (hgo _ hini)
  exact am_behind C0 hA hl (vx_callSN (am_tight X) hx hown (va_Nw.use rfl (hwK.2 _ hlink rfl)) (hts _ hstat) (hts _ hini) (hts _ hcode) hy hK (g := F0 m pc ls _) rfl (hl.1.trans hml.symm) (argsL := as) (rest := rest) (am_len hn) rfl (am_mon _ _ _ _ _ hst) (by rw [hb]; exact hdg) (fun vm₁ hW₁ => am_pre (R0 := R) X C0 hA hw vm₁ hW₁))
theorem am_callI {Mc : am_M} {index : Nat} {as : List Value} {b : Nat} (hM : am_Mt G Mc d (Cond.code Mc.1 Mc.2.1 Mc.2.2.1 none) (.ref b :: as) σ (am_K2 G M pc (d + 1) L rest Q)) (hy1 : Mc.1.name = "<init>") (hlink : Cond.methodLink M.1.cls index Mc.1 ∈ lw_all) (hinst : Cond.instanceMethod Mc.1 ∈ lw_all) (hrn : Mc.2.2.2.1 = none) (hini : Cond.initialized Mc.1.cls ∈ lw_all) (hcode : Cond.code Mc.1 Mc.2.1 Mc.2.2.1 none ∈ lw_all) (hn : (parseMethodDescriptor Mc.1.desc).map (fun d => d.parameters.length) = some as.length) (hmx : Mc.2.2.1 ≤ 37) (hst : rest.length ≤ 8) (hy : Mc.1.cls ≠ "java/lang/invoke/MethodHandle" ∧ Mc.1.cls ≠ "java/lang/invoke/VarHandle") (hdg : decode M.2.1 pc = .ok (.invokespecial index, 3)) : am_Wp G M pc (d + 1) L (as.reverse ++ .ref b :: rest) σ Q := by
  intro p e R s m args below meth c H locs cells slots ls C hw hA hl T0 hT X
  subst hT
  have C0 := C
  obtain ⟨hx, hb, hr, hml, hown, hlocks, hname, htab, hfr, hroom, ⟨hoK, haK, hwK⟩, hsK, hhK⟩ := C
  have hts : ∀ w ∈ lw_all, w.before args s = true := fun w h => hwK.1 w h args
  have hgo : ∀ w ∈ lw_all, ∀ (a : Array Value) (U : State), s.WarmedH U.vm → w.before a U = true := fun w hw a U hW => word_at hW (lw_self w hw).2 (hwK.1 w hw #[])
  have hcode' : Cond.code Mc.1 Mc.2.1 Mc.2.2.1 none ∈ lw_all := hcode
  have hK : vx_Back (am_l G) R p e below s args Mc.1 3 16 (am_Pre G R (.ref b :: as) σ) (am_Po G (am_K2 G M pc (d + 1) L rest Q)) (am_Px G (am_K2 G M pc (d + 1) L rest Q)) := am_back hM hfr.1 (by have := hfr.2; omega) (hgo _ hcode) (am_specC (hgo _ hcode)) (hgo _ hini)
  exact am_behind C0 hA hl (vx_callI (am_tight X) hx hown hy1 (hts _ hlink) (hts _ hinst) (hts _ hcode) hy hK (g := F0 m pc ls _) rfl (hl.1.trans hml.symm) (a := b) (argsL := as) (rest := rest) (am_len hn) rfl (am_mon _ _ _ _ _ hst) (by rw [hb]; exact hdg) (fun vm₁ hW₁ => am_pre (R0 := R) X C0 hA hw vm₁ hW₁))
theorem am_callIN {Mc : am_M} {index : Nat} {as : List Value} {b : Nat} {host : String} (hM : am_Mt G Mc d (Cond.code Mc.1 Mc.2.1 Mc.2.2.1 none) (.ref b :: as) σ (am_K2 G M pc (d + 1) L rest Q)) (hy1 : Mc.1.name = "<init>") (hlink : Cond.methodLinkNest M.1.cls index Mc.1 host ∈ lw_tbl) (hinst : Cond.instanceMethod Mc.1 ∈ lw_all) (hrn : Mc.2.2.2.1 = none) (hini : Cond.initialized Mc.1.cls ∈ lw_all) (hcode : Cond.code Mc.1 Mc.2.1 Mc.2.2.1 none ∈ lw_all) (hn : (parseMethodDescriptor Mc.1.desc).map (fun d => d.parameters.length) = some as.length) (hmx : Mc.2.2.1 ≤ 37) (hst : rest.length ≤ 8) (hy : Mc.1.cls ≠ "java/lang/invoke/MethodHandle" ∧ Mc.1.cls ≠ "java/lang/invoke/VarHandle") (hdg : decode M.2.1 pc = .ok (.invokespecial index, 3)) : am_Wp G M pc (d + 1) L (as.reverse ++ .ref b :: rest) σ Q := by
  intro p e R s m args below meth c H locs cells slots ls C hw hA hl T0 hT X
  subst hT
  have C0 := C
  obtain ⟨hx, hb, hr, hml, hown, hlocks, hname, htab, hfr, hroom, ⟨hoK, haK, hwK⟩, hsK, hhK⟩ := C
  have hts : ∀ w ∈ lw_all, w.before args s = true := fun w h => hwK.1 w h args
  have hgo : ∀ w ∈ lw_all, ∀ (a : Array Value) (U : State), s.WarmedH U.vm → w.before a U = true := fun w hw a U hW => word_at hW (lw_self w hw).2 (hwK.1 w hw #[])
  have hcode' : Cond.code Mc.1 Mc.2.1 Mc.2.2.1 none ∈ lw_all := hcode
  have hK : vx_Back (am_l G) R p e below s args Mc.1 3 16 (am_Pre G R (.ref b :: as) σ) (am_Po G (am_K2 G M pc (d + 1) L rest Q)) (am_Px G (am_K2 G M pc (d + 1) L rest Q)) := am_back hM hfr.1 (by have := hfr.2; omega) (hgo _ hcode) (am_specC (hgo _ hcode)) (hgo _ hini)
  exact am_behind C0 hA hl (vx_callIN (am_tight X) hx hown hy1 (va_Nw.use rfl (hwK.2 _ hlink rfl)) (hts _ hinst) (hts _ hcode) hy hK (g := F0 m pc ls _) rfl (hl.1.trans hml.symm) (a := b) (argsL := as) (rest := rest) (am_len hn) rfl (am_mon _ _ _ _ _ hst) (by rw [hb]; exact hdg) (fun vm₁ hW₁ => am_pre (R0 := R) X C0 hA hw vm₁ hW₁))
end
