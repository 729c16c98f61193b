set_option maxRecDepth 100000
/-! ===== more of the abstract machine: constants that are read, arrays cloned, class objects ===== -/
section
variable {G : am_G} {M : am_M} {pc d : Nat} {L : List (Nat × Value)} {rest : List Value} {σ : am_S} {Q : am_R → am_S → Prop}
theorem am_vaS {p : Program} {l : Launch} {e : Env} {R : Room} {s : State} {m : MethodId} {args : Array Value} {below : List Frame} {meth : Method} {c : Code} {T : State} {H : Heap} {locs : List Loc} {cells slots : Nat} (X : Stand p l e R s m args below meth c T locs cells slots) (hT : T.heap = H) (hA : ∀ z ∈ locs, am_A G z.base) : va_S (am_A G) s.heap H locs :=
  ⟨by rw [← hT]; exact X.same.2.1, fun q h1 h2 => by rw [← hT]; exact am_frame X hA q h1 h2, hA⟩
theorem am_getKv {index i : Nat} (hi : i < 23) (hlink : Cond.fieldLink M.1.cls index "java/lang/String" "value" "[B" ∈ lw_all) (hdg : decode M.2.1 pc = .ok (.getfield index, 3)) (k : am_Wp G M (pc + 3) d L (.ref (am_sv G i) :: rest) σ Q) : am_Wp G M pc d L (.ref (am_sk G i) :: rest) σ Q := by
  intro p e R s m args below meth c H locs cells slots ls C hw hA hl T0 hT X
  have k := k p e R s m args below meth c H locs cells slots ls C hw hA hl
  obtain ⟨hx, hb, hr, hml, hown, hlocks, hname, htab, hfr, hroom, ⟨hoK, haK, hwK⟩, hsK, hhK⟩ := C
  exact vk_getf hx hb (hhK.1 i hi).2.2.1 (am_vaS X hT hA) hown (hwK.1 _ hlink args) (fun _ h => h) hdg k T0 hT X
theorem am_getKc {index i : Nat} (hi : i < 23) (hlink : Cond.fieldLink M.1.cls index "java/lang/String" "coder" "B" ∈ lw_all) (hdg : decode M.2.1 pc = .ok (.getfield index, 3)) (k : am_Wp G M (pc + 3) d L (.int 0 :: rest) σ Q) : am_Wp G M pc d L (.ref (am_sk G i) :: rest) σ Q := by
  intro p e R s m args below meth c H locs cells slots ls C hw hA hl T0 hT X
  have k := k p e R s m args below meth c H locs cells slots ls C hw hA hl
  obtain ⟨hx, hb, hr, hml, hown, hlocks, hname, htab, hfr, hroom, ⟨hoK, haK, hwK⟩, hsK, hhK⟩ := C
  exact vk_getf hx hb (hhK.1 i hi).2.1 (am_vaS X hT hA) hown (hwK.1 _ hlink args) (fun _ h => h) hdg k T0 hT X
theorem am_baldK {j : Nat} {i : Int32} (hj : j < 23) (hdg : decode M.2.1 pc = .ok (.baload, 1)) (hin : vp_in i (am_txs.getD j "").length) (k : am_Wp G M (pc + 1) d L (.int (am_byte j i.toNatClampNeg) :: rest) σ Q) : am_Wp G M pc d L (.int i :: .ref (am_sv G j) :: rest) σ Q := by
  intro p e R s m args below meth c H locs cells slots ls C hw hA hl T0 hT X
  have k := k p e R s m args below meth c H locs cells slots ls C hw hA hl
  obtain ⟨hx, hb, hr, hml, hown, hlocks, hname, htab, hfr, hroom, ⟨hoK, haK, hwK⟩, hsK, hhK⟩ := C
  exact va_tb hx hb (hhK.1 j hj).2.2.2 (am_vaS X hT hA) hin rfl hdg k T0 hT X
theorem am_alenK {j : Nat} (hj : j < 23) (hdg : decode M.2.1 pc = .ok (.arraylength, 1)) (k : am_Wp G M (pc + 1) d L (.int (nI (am_txs.getD j "").length) :: rest) σ Q) : am_Wp G M pc d L (.ref (am_sv G j) :: rest) σ Q := by
  intro p e R s m args below meth c H locs cells slots ls C hw hA hl T0 hT X
  have k := k p e R s m args below meth c H locs cells slots ls C hw hA hl
  obtain ⟨hx, hb, hr, hml, hown, hlocks, hname, htab, hfr, hroom, ⟨hoK, haK, hwK⟩, hsK, hhK⟩ := C
  exact va_tlen hx hb (hhK.1 j hj).2.2.2 (am_vaS X hT hA) rfl hdg k T0 hT X
theorem am_alenE {t : Nat} (ht : am_st G 1 = .ref t) (hdg : decode M.2.1 pc = .ok (.arraylength, 1)) (k : am_Wp G M (pc + 1) d L (.int 0 :: rest) σ Q) : am_Wp G M pc d L (.ref t :: rest) σ Q := by
  intro p e R s m args below meth c H locs cells slots ls C hw hA hl T0 hT X
  have k := k p e R s m args below meth c H locs cells slots ls C hw hA hl
  obtain ⟨hx, hb, hr, hml, hown, hlocks, hname, htab, hfr, hroom, ⟨hoK, haK, hwK⟩, hsK, hhK⟩ := C
  obtain ⟨t', h1, h2⟩ := hhK.2.2.1
  cases ht.symm.trans h1
  exact va_tlen hx hb h2 (am_vaS X hT hA) rfl hdg k T0 hT X
theorem am_ccK {index i : Nat} (hi : i < 23) (hlink : Cond.classLink M.1.cls index "java/lang/String" ∈ lw_all) (hdg : decode M.2.1 pc = .ok (.checkcast index, 3)) (k : am_Wp G M (pc + 3) d L (.ref (am_sk G i) :: rest) σ Q) : am_Wp G M pc d L (.ref (am_sk G i) :: rest) σ Q := by
  intro p e R s m args below meth c H locs cells slots ls C hw hA hl T0 hT X
  have k := k p e R s m args below meth c H locs cells slots ls C hw hA hl
  obtain ⟨hx, hb, hr, hml, hown, hlocks, hname, htab, hfr, hroom, ⟨hoK, haK, hwK⟩, hsK, hhK⟩ := C
  exact va_castS hx hb hown (hwK.1 _ hlink args) (hoK 35 _ rfl).2 (va_Orecv (hhK.1 i hi).1 (am_vaS X hT hA)) hdg k T0 hT X
theorem am_inK {index i : Nat} (hi : i < 23) (hlink : Cond.classLink M.1.cls index "java/lang/String" ∈ lw_all) (hdg : decode M.2.1 pc = .ok (.instanceof index, 3)) (k : am_Wp G M (pc + 3) d L (.int 1 :: rest) σ Q) : am_Wp G M pc d L (.ref (am_sk G i) :: rest) σ Q := by
  intro p e R s m args below meth c H locs cells slots ls C hw hA hl T0 hT X
  have k := k p e R s m args below meth c H locs cells slots ls C hw hA hl
  obtain ⟨hx, hb, hr, hml, hown, hlocks, hname, htab, hfr, hroom, ⟨hoK, haK, hwK⟩, hsK, hhK⟩ := C
  exact va_instS hx hb hown (hwK.1 _ hlink args) (hoK 35 _ rfl).2 (va_Orecv (hhK.1 i hi).1 (am_vaS X hT hA)) hdg k T0 hT X
theorem am_callVK {Mc : am_M} {index i : Nat} {as : List Value} (hi : i < 23) (hM : am_Mt G Mc d (Cond.code Mc.1 Mc.2.1 Mc.2.2.1 Mc.2.2.2.1) (.ref (am_sk G i) :: as) σ (am_K2 G M pc (d + 1) L rest Q)) (hlink : Cond.methodLink M.1.cls index Mc.1 ∈ lw_all) (hinst : Cond.instanceMethod Mc.1 ∈ lw_all) (hsel : Cond.selects "java/lang/String" Mc.1 Mc.1 ∈ lw_all) (hini : Cond.initialized Mc.1.cls ∈ lw_all) (hcode : Cond.code Mc.1 Mc.2.1 Mc.2.2.1 Mc.2.2.2.1 ∈ lw_all) (hn : (parseMethodDescriptor Mc.1.desc).map (fun d => d.parameters.length) = some as.length) (hmx : Mc.2.2.1 ≤ 37) (hst : rest.length ≤ 8) (hy : Mc.1.cls ≠ "java/lang/invoke/MethodHandle" ∧ Mc.1.cls ≠ "java/lang/invoke/VarHandle") (hdg : decode M.2.1 pc = .ok (.invokevirtual index, 3)) : am_Wp G M pc (d + 1) L (as.reverse ++ .ref (am_sk G i) :: rest) σ Q := by
  intro p e R s m args below meth c H locs cells slots ls C hw hA hl T0 hT X
  subst hT
  have C0 := C
  obtain ⟨hx, hb, hr, hml, hown, hlocks, hname, htab, hfr, hroom, ⟨hoK, haK, hwK⟩, hsK, hhK⟩ := C
  have hts : ∀ w ∈ lw_all, w.before args s = true := fun w h => hwK.1 w h args
  have hgo : ∀ w ∈ lw_all, ∀ (a : Array Value) (U : State), s.WarmedH U.vm → w.before a U = true := fun w hw a U hW => word_at hW (lw_self w hw).2 (hwK.1 w hw #[])
  have hK : vx_Back (am_l G) R p e below s args Mc.1 3 16 (am_Pre G R (.ref (am_sk G i) :: as) σ) (am_Po G (am_K2 G M pc (d + 1) L rest Q)) (am_Px G (am_K2 G M pc (d + 1) L rest Q)) := am_back hM hfr.1 (by have := hfr.2; omega) (hgo _ hcode) (am_specC (hgo _ hcode)) (hgo _ hini)
  obtain ⟨cellB, hcB, hoB, hclB⟩ := va_Orecv (hhK.1 i hi).1 (am_vaS X rfl hA)
  exact am_behind C0 hA hl (vx_callV (am_tight X) hx hown (hts _ hlink) (hts _ hinst) (hts _ hsel) (hts _ hcode) hy hK hcB hoB hclB (g := F0 m pc ls _) rfl (hl.1.trans hml.symm) (argsL := as) (rest := rest) (am_len hn) rfl (am_mon _ _ _ _ _ hst) (by rw [hb]; exact hdg) (fun vm₁ hW₁ => am_pre (R0 := R) X C0 hA hw vm₁ hW₁))
theorem am_slen {n : Nat} (hn : am_sv G 24 = n) (hdg : decode M.2.1 pc = .ok (.arraylength, 1)) (k : am_Wp G M (pc + 1) d L (.int (nI n) :: rest) σ Q) : am_Wp G M pc d L (va_rf (some (am_sk G 24)) :: rest) σ Q := by
  subst hn
  intro p e R s m args below meth c H locs cells slots ls C hw hA hl T0 hT X
  have k := k p e R s m args below meth c H locs cells slots ls C hw hA hl
  obtain ⟨hx, hb, hr, hml, hown, hlocks, hname, htab, hfr, hroom, ⟨hoK, haK, hwK⟩, hsK, hhK⟩ := C
  exact va_tlen hx hb hhK.2.2.2 (am_vaS X hT hA) rfl hdg k T0 hT X
theorem am_sld {i v : Int32} (hin : vp_in i (am_sv G 24)) (hv : am_st G (100 + i.toNatClampNeg) = .int v) (hdg : decode M.2.1 pc = .ok (.iaload, 1)) (k : am_Wp G M (pc + 1) d L (.int v :: rest) σ Q) : am_Wp G M pc d L (.int i :: va_rf (some (am_sk G 24)) :: rest) σ Q := by
  intro p e R s m args below meth c H locs cells slots ls C hw hA hl T0 hT X
  have k := k p e R s m args below meth c H locs cells slots ls C hw hA hl
  obtain ⟨hx, hb, hr, hml, hown, hlocks, hname, htab, hfr, hroom, ⟨hoK, haK, hwK⟩, hsK, hhK⟩ := C
  exact va_ti hx hb hhK.2.2.2 (am_vaS X hT hA) hin hv hdg k T0 hT X
theorem am_castA {index τ a : Nat} {ty : FieldType} {x : vp_A} {nm : String} (ht : am_tyl[τ]? = some ty) (hnm : ∀ s : State, va_RA s (am_c G τ) ty → s.vm.findClass nm = some (am_c G τ)) (he : σ.1 a = some (.inl (τ, x))) (hlink : Cond.classLink M.1.cls index nm ∈ lw_all) (hdg : decode M.2.1 pc = .ok (.checkcast index, 3)) (k : am_Wp G M (pc + 3) d L (.ref a :: rest) σ Q) : am_Wp G M pc d L (.ref a :: rest) σ Q := by
  intro p e R s m args below meth c H locs cells slots ls C hw hA hl
  have k := k p e R s m args below meth c H locs cells slots ls C hw hA hl
  obtain ⟨hx, hb, hr, hml, hown, hlocks, hname, htab, hfr, hroom, ⟨hoK, haK, hwK⟩, hsK, hhK⟩ := C
  have hcell := (hw.2.2.2.2.2 a _ he).2
  exact va_castA (D := am_D G) (cl := []) (ws := [(a, .inl (am_c G τ, x))]) hx hb hown (hwK.1 _ hlink args) (fun k y hy => by
    have hz : k < 1 := (List.getElem?_eq_some_iff.mp hy).1
    rw [show k = 0 by omega] at hy
    cases hy
    exact hcell) 0 rfl (hnm s (haK τ _ ht).2) hdg k
theorem am_getC {index τ a mi : Nat} {ty : FieldType} {x : vp_A} (ht : am_tyl[τ]? = some (.object "java/lang/Object")) (he : σ.1 a = some (.inl (τ, x))) (hmi : mi = am_sk G 23) (hlink : Cond.methodLink M.1.cls index ⟨"java/lang/Object", "getClass", "()Ljava/lang/Class;"⟩ ∈ lw_all) (hdecl : Cond.declares ⟨"java/lang/Object", "getClass", "()Ljava/lang/Class;"⟩ ∈ lw_tbl) (hsel : Cond.selects "[Ljava/lang/Object;" ⟨"java/lang/Object", "getClass", "()Ljava/lang/Class;"⟩ ⟨"java/lang/Object", "getClass", "()Ljava/lang/Class;"⟩ ∈ lw_all) (hinst : Cond.instanceMethod ⟨"java/lang/Object", "getClass", "()Ljava/lang/Class;"⟩ ∈ lw_all) (hnat : Cond.native ⟨"java/lang/Object", "getClass", "()Ljava/lang/Class;"⟩ ∈ lw_all) (hst : rest.length ≤ 8) (hdg : decode M.2.1 pc = .ok (.invokevirtual index, 3)) (k : am_Wp G M (pc + 3) (d + 1) L (.ref mi :: rest) σ Q) : am_Wp G M pc (d + 1) L (.ref a :: rest) σ Q := by
  subst hmi
  intro p e R s m args below meth c H locs cells slots ls C hw hA hl
  have k := k p e R s m args below meth c H locs cells slots ls C hw hA hl
  obtain ⟨hx, hb, hr, hml, hown, hlocks, hname, htab, hfr, hroom, ⟨hoK, haK, hwK⟩, hsK, hhK⟩ := C
  have hcell := (hw.2.2.2.2.2 a _ he).2
  have hmon := am_mon m pc ls [] rest hst
  exact va_getC (C := "[Ljava/lang/Object;") hx hb (hml.trans hl.1.symm) hown (hwK.1 _ hlink args) (va_Dc.use (hwK.2 _ hdecl rfl)) (hwK.1 _ hsel args) (hwK.1 _ hinst args) (hwK.1 _ hnat args) hsK.2.2
    ⟨_, hcell, by obtain ⟨n, f | f | f | f | f⟩ := x <;> rfl, by rw [va_nmO (haK τ _ ht).2 (by decide +kernel)]; obtain ⟨n, f | f | f | f | f⟩ := x <;> rfl⟩ (by have := hfr.1; omega) (by have := hfr.2; have h9 : 2 * (F0 m pc ls []).monitorRoom + (rest.map fun v => v.category).sum ≤ 16 := hmon; omega) hdg k
theorem am_ldcM {index : Nat} (hlink : Cond.classLink M.1.cls index "[Ljava/lang/Object;" ∈ lw_all) (hdg : decode M.2.1 pc = .ok (.ldc index, 2)) (k : am_Wp G M (pc + 2) d L (.ref (am_sk G 23) :: rest) σ Q) : am_Wp G M pc d L rest σ Q := by
  intro p e R s m args below meth c H locs cells slots ls C hw hA hl
  have k := k p e R s m args below meth c H locs cells slots ls C hw hA hl
  obtain ⟨hx, hb, hr, hml, hown, hlocks, hname, htab, hfr, hroom, ⟨hoK, haK, hwK⟩, hsK, hhK⟩ := C
  exact va_ldcM hx hb hown (hwK.1 _ hlink args) hsK.2.2 hdg k
end
