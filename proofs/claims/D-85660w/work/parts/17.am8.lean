set_option maxRecDepth 100000
/-! ===== am_: new arrays, copies, casts, statics, constants ===== -/
section
variable {G : am_G} {M : am_M} {pc d : Nat} {L : List (Nat × Value)} {rest : List Value} {σ : am_S} {Q : am_R → am_S → Prop}
theorem am_objInit {index a : Nat} (hlink : Cond.methodLink M.1.cls index Lib.objectInit ∈ lw_all) (hinst : Cond.instanceMethod Lib.objectInit ∈ lw_all) (hcode : Cond.code Lib.objectInit ⟨#[0xb1]⟩ 1 none ∈ lw_all) (hst : rest.length ≤ 8) (hdg : decode M.2.1 pc = .ok (.invokespecial index, 3)) (k : am_Wp G M (pc + 3) (d + 1) L rest σ Q) : am_Wp G M pc (d + 1) L (.ref a :: rest) σ Q := by
  intro p e R s m args below meth c H locs cells slots ls C hw hA hl
  have k := k p e R s m args below meth c H locs cells slots ls C hw hA hl
  obtain ⟨hx, hb, hr, hml, hown, hlocks, hname, htab, hfr, hroom, ⟨hoK, haK, hwK⟩, hsK, hhK⟩ := C
  have hm := am_mon m pc ls (.ref a :: rest) rest hst
  have h1 := hfr.1
  have h2 := hfr.2
  refine W.objInit (g := F0 m pc ls (.ref a :: rest)) (rest := rest) hx hb hown (hwK.1 _ hlink args) (hwK.1 _ hinst args) (hwK.1 _ hcode args) rfl (hl.1.trans hml.symm) rfl hdg (by omega) (by omega) ?_
  exact k
theorem am_newarray {τ N : Nat} {atype : ArrayType} {n : Int32} {x : vp_A} (harr : Cond.arrayClass (newarray.typeOf atype) ∈ lw_all) (ht : am_tyl[τ]? = some (newarray.typeOf atype)) (hx0 : ∀ cA : ClassId, vp_cell cA x = arrV cA N (fun _ => defaultValue (newarray.typeOf atype))) (hn : n = nI N) (hN : N ≤ 65536) (hdg : decode M.2.1 pc = .ok (.newarray atype, 2)) (hc : σ.2.1 + 1 ≤ am_bc G) (hs : σ.2.2 + N ≤ am_bs G)
    (kk : am_Wp G M (pc + 2) d L (.ref σ.2.1 :: rest) (am_nw σ (.inl (τ, x)) N) Q) : am_Wp G M pc d L (.int n :: rest) σ Q := by
  intro p e R s m args below meth c H locs cells slots ls C hw hA hl
  have C0 := C
  obtain ⟨hx, hb, hr, hml, hown, hlocks, hname, htab, hfr, hroom, ⟨hoK, haK, hwK⟩, hsK, hhK⟩ := C
  intro T0 hT X
  subst hT
  have hg : am_used (am_z G) T0.heap = am_used (am_z G) s.heap + ((T0.heap.toList.drop s.heap.size).map (fun c : Cell => c.slots.size)).sum := am_grow X hroom.2.2
  have hsz : s.heap.size ≤ T0.heap.size := X.same.2.1
  have hw1 : T0.heap.size = σ.2.1 := hw.1
  have hw2 : am_used (am_z G) T0.heap = σ.2.2 := hw.2.1
  have hr1 : am_bc G ≤ s.heap.size + R.cells := hroom.1
  have hr2 : am_bs G ≤ am_used (am_z G) s.heap + R.slots := hroom.2.1
  have X1 := am_tight X
  generalize hbc : am_bc G = bc at hc hr1
  generalize hbs : am_bs G = bs at hs hr2
  have hcells : T0.heap.size - s.heap.size + 1 ≤ R.cells := by omega
  have hslots : ((T0.heap.toList.drop s.heap.size).map (fun c : Cell => c.slots.size)).sum + N ≤ R.slots := by omega
  have hNN : n.toNatClampNeg = N := by rw [hn]; exact nI_clamp (by omega)
  have hnn : ¬ n < 0 := by rw [hn]; exact nI_pos (by omega)
  have hbytes : N * componentBytes (newarray.typeOf atype) ≤ 536870912 := by
    have : componentBytes (newarray.typeOf atype) ≤ 8 := by cases atype <;> decide
    have h2 := Nat.mul_le_mul hN this
    omega
  refine va_newaK (g := F0 m pc ls (.int n :: rest)) (Q := am_end G Q below args s R) hx hb (hwK.1 _ harr args) rfl hdg rfl hnn hNN hbytes hcells hslots rfl (fun H1 cA e1 z1 o1 hAr hNm => ?_) T0 rfl X1
  have hcA : cA = am_c G τ := by
    have h9 := (haK τ _ ht).2
    have h8 : s.vm.findClass ("[" ++ (newarray.typeOf atype).toString) = some (am_c G τ) := by
      cases atype <;> exact h9
    exact Option.some.inj (hNm.symm.trans h8)
  subst hcA
  have hcz : (vp_cell (am_c G τ) x).slots.size = N := by rw [hx0, arrV_size]
  have e2 : H1[T0.heap.size]? = some (vp_cell (am_c G τ) x) := by rw [hx0]; exact e1
  have hnew := hw.new z1 e2 o1 (by rw [hbc]; exact hc) (by rw [hcz, hbs]; exact hs) (e := .inl (τ, x)) e2
  rw [hcz] at hnew
  rw [hw1]
  exact kk p e R s m args below meth c _ _ _ _ ls C0 hnew hA hl
theorem am_anewarray {index τ N : Nat} {Cn : String} {n : Int32} (hlink : Cond.classLink M.1.cls index Cn ∈ lw_all) (hover : Cond.arrayOver (.object Cn) ∈ lw_tbl) (ht : am_tyl[τ]? = some (.object Cn)) (hn : n = nI N) (hN : N ≤ 65536) (hdg : decode M.2.1 pc = .ok (.anewarray index, 3)) (hc : σ.2.1 + 1 ≤ am_bc G) (hs : σ.2.2 + N ≤ am_bs G)
    (kk : am_Wp G M (pc + 3) d L (.ref σ.2.1 :: rest) (am_nw σ (.inl (τ, N, .inr (.inr (.inr (.inr (fun _ => none)))))) N) Q) : am_Wp G M pc d L (.int n :: rest) σ Q := by
  intro p e R s m args below meth c H locs cells slots ls C hw hA hl
  have C0 := C
  obtain ⟨hx, hb, hr, hml, hown, hlocks, hname, htab, hfr, hroom, ⟨hoK, haK, hwK⟩, hsK, hhK⟩ := C
  intro T0 hT X
  subst hT
  have hg : am_used (am_z G) T0.heap = am_used (am_z G) s.heap + ((T0.heap.toList.drop s.heap.size).map (fun c : Cell => c.slots.size)).sum := am_grow X hroom.2.2
  have hsz : s.heap.size ≤ T0.heap.size := X.same.2.1
  have hw1 : T0.heap.size = σ.2.1 := hw.1
  have hw2 : am_used (am_z G) T0.heap = σ.2.2 := hw.2.1
  have hr1 : am_bc G ≤ s.heap.size + R.cells := hroom.1
  have hr2 : am_bs G ≤ am_used (am_z G) s.heap + R.slots := hroom.2.1
  have X1 := am_tight X
  generalize hbc : am_bc G = bc at hc hr1
  generalize hbs : am_bs G = bs at hs hr2
  have hNN : n.toNatClampNeg = N := by rw [hn]; exact nI_clamp (by omega)
  have hnn : ¬ n < 0 := by rw [hn]; exact nI_pos (by omega)
  have hcells : T0.heap.size - s.heap.size + 1 ≤ R.cells := by omega
  have hslots : ((T0.heap.toList.drop s.heap.size).map (fun c : Cell => c.slots.size)).sum + n.toNatClampNeg ≤ R.slots := by rw [hNN]; omega
  refine W.anew (g := F0 m pc ls (.int n :: rest)) (Q := am_end G Q below args s R) hx hb hown (hwK.1 _ hlink args) (va_AO.use (hwK.2 _ hover rfl)) rfl hdg rfl hnn (by rw [hNN]; omega) hcells hslots (fun cA kA comp f1 f2 f3 f4 => ?_) T0 rfl X1
  have hcA : cA = am_c G τ := by
    obtain ⟨_, _, _, _, _, h9⟩ := (haK τ _ ht).2
    exact Option.some.inj (f1.symm.trans h9)
  subst hcA
  have e2 : (T0.heap.push ({ cls := am_c G τ, slots := Array.replicate n.toNatClampNeg .null, vm := .none } : Cell))[T0.heap.size]? = some (vp_cell (am_c G τ) (N, .inr (.inr (.inr (.inr (fun _ => none)))))) := by
    rw [Array.getElem?_push_size, ← hNN, vp_cell_q]
    exact congrArg some (arrV_new _ _ _)
  have hcz : (vp_cell (am_c G τ) (N, .inr (.inr (.inr (.inr (fun _ => none)))))).slots.size = N := by rw [am_vsz]
  have hnew := hw.new (H1 := T0.heap.push ({ cls := am_c G τ, slots := Array.replicate n.toNatClampNeg .null, vm := .none } : Cell)) (by simp) e2 (fun q hq => by rw [Array.getElem?_push, if_neg (Nat.ne_of_lt hq)]) (by rw [hbc]; exact hc) (by rw [hcz, hbs]; exact hs) (e := .inl (τ, N, .inr (.inr (.inr (.inr (fun _ => none)))))) e2
  rw [hcz] at hnew
  rw [hw1]
  exact kk p e R s m args below meth c _ _ _ _ ls C0 hnew hA hl
theorem am_nn : ∀ z : Int32, ¬ z < 0 → z.toInt = (z.toNatClampNeg : Int) := by
  intro z hz
  have hz0 : (0 : Int) ≤ z.toInt := by
    have := Int32.not_lt.mp hz
    simpa using Int32.le_iff_toInt_le.mp this
  show z.toInt = ((z.toInt.toNat : Nat) : Int)
  omega
theorem am_acopyi {index τ a0 a n0 n1 : Nat} {ty : FieldType} {f g : Nat → Int32} {sp dp n : Int32} (hlink : Cond.methodLink M.1.cls index arraycopyName ∈ lw_all) (hnat : Cond.native arraycopyName ∈ lw_all) (hstat : Cond.static arraycopyName ∈ lw_all) (hini : Cond.initialized "java/lang/System" ∈ lw_all) (ht : am_tyl[τ]? = some ty) (hprim : refKind ty = false) (he0 : σ.1 a0 = some (.inl (τ, n0, .inl f))) (he1 : σ.1 a = some (.inl (τ, n1, .inl g))) (h1 : ¬ sp < 0) (h2 : ¬ dp < 0) (h3 : ¬ n < 0) (h4 : sp.toNatClampNeg + n.toNatClampNeg ≤ n0) (h5 : dp.toNatClampNeg + n.toNatClampNeg ≤ n1) (hfit : ∀ i, i < n.toNatClampNeg → fits ty (.int (f (sp.toNatClampNeg + i))) = true) (hst : rest.length ≤ 8) (hdg : decode M.2.1 pc = .ok (.invokestatic index, 3))
    (kk : am_Wp G M (pc + 3) (d + 1) L rest (am_up σ a (.inl (τ, n1, .inl (va_cpy f g sp.toNatClampNeg dp.toNatClampNeg n.toNatClampNeg)))) Q) : am_Wp G M pc (d + 1) L (.int n :: .int dp :: .ref a :: .int sp :: .ref a0 :: rest) σ Q := by
  intro p e R s m args below meth c H locs cells slots ls C hw hA hl
  have C0 := C
  obtain ⟨hx, hb, hr, hml, hown, hlocks, hname, htab, hfr, hroom, ⟨hoK, haK, hwK⟩, hsK, hhK⟩ := C
  have hm := am_mon m pc ls rest rest hst
  have hf1 := hfr.1
  have hf2 := hfr.2
  have hmon : (F0 m pc ls rest).monitorRoom = 0 := rfl
  rw [hmon] at hm
  have hnw : nativeFrameWords "java/lang/System" "arraycopy" 5 ≤ 37 := by decide +kernel
  have nn := am_nn
  intro T hT X
  have hc0 : H[a0]? = some (vp_cell (am_c G τ) (n0, .inl f)) := (hw.2.2.2.2.2 a0 _ he0).2
  have hc1 : H[a]? = some (vp_cell (am_c G τ) (n1, .inl g)) := (hw.2.2.2.2.2 a _ he1).2
  obtain ⟨-, k0, hk0, cm0, hkk0⟩ := (haK τ _ ht).1 n0 (fun j => .int (f j))
  obtain ⟨-, k1, hk1, cm1, hkk1⟩ := (haK τ _ ht).1 n1 (fun j => .int (g j))
  obtain ⟨vm', X', step⟩ := X.arraycopy hx hown (hwK.1 _ hlink args) (hwK.1 _ hnat args) (hwK.1 _ hstat args) (hwK.1 _ hini args) (src := a0) (dst := a) (cs := vp_cell (am_c G τ) (n0, .inl f)) (cd := vp_cell (am_c G τ) (n1, .inl g)) (srcPos := sp) (destPos := dp) (n := n) (by rw [hT]; exact hc0) (by rw [hT]; exact hc1)
    (fun _ h => by cases h) (fun _ h => by cases h) (fun h => by cases h) (fun h => by cases h) hk0 hk1 hkk0 hkk1 (by simp [hprim]) h1 h2 h3
    (by rw [nn sp h1, nn n h3]; show ¬ _ > ((arrV _ n0 (fun j => .int (f j))).slots.size : Int); rw [arrV_size]; omega)
    (by rw [nn dp h2, nn n h3]; show ¬ _ > ((arrV _ n1 (fun j => .int (g j))).slots.size : Int); rw [arrV_size]; omega)
    (fun vm₁ _ i hi => by
      have e : (vp_cell (am_c G τ) (n0, .inl f)).slots.getD (sp.toNatClampNeg + i) .null = .int (f (sp.toNatClampNeg + i)) := by
        show (arrV _ n0 (fun j => .int (f j))).slots.getD _ _ = _
        rw [Array.getD_eq_getD_getElem?, arrV_read _ _ (by omega)]
        rfl
      refine ⟨?_, ?_⟩
      · rw [e]
        exact hfit i hi
      · rw [e]
        exact trivial)
    (g := F0 m pc ls (.int n :: .int dp :: .ref a :: .int sp :: .ref a0 :: rest)) rfl (by rw [hml]; exact hl.1) (rest := rest) rfl (by rw [hb]; exact hdg) (by omega) (by show 2 * 0 + _ + _ ≤ _; omega)
  have e1 : copied (vp_cell (am_c G τ) (n0, .inl f)) (vp_cell (am_c G τ) (n1, .inl g)) sp dp n = vp_cell (am_c G τ) (n1, .inl (va_cpy f g sp.toNatClampNeg dp.toNatClampNeg n.toNatClampNeg)) := va_copied (fun z => .int z) _ _ f g h4
  rw [e1] at X' step
  have hlt : a < H.size := (Array.getElem?_eq_some_iff.mp hc1).1
  have hheap : ((T.setVm vm').setCell a (vp_cell (am_c G τ) (n1, .inl (va_cpy f g sp.toNatClampNeg dp.toNatClampNeg n.toNatClampNeg)))).heap = H.setIfInBounds a (vp_cell (am_c G τ) (n1, .inl (va_cpy f g sp.toNatClampNeg dp.toNatClampNeg n.toNatClampNeg))) := by rw [← hT]; rfl
  have oq : ∀ q : Nat, q ≠ a → (H.setIfInBounds a (vp_cell (am_c G τ) (n1, .inl (va_cpy f g sp.toNatClampNeg dp.toNatClampNeg n.toNatClampNeg))))[q]? = H[q]? := fun q hq => by simp [Array.getElem?_setIfInBounds, Ne.symm hq]
  have e2 : (H.setIfInBounds a (vp_cell (am_c G τ) (n1, .inl (va_cpy f g sp.toNatClampNeg dp.toNatClampNeg n.toNatClampNeg))))[a]? = some (vp_cell (am_c G τ) (n1, .inl (va_cpy f g sp.toNatClampNeg dp.toNatClampNeg n.toNatClampNeg))) := by simp [Array.getElem?_setIfInBounds, hlt]
  obtain ⟨t, a1, b1⟩ := kk p e R s m args below meth c _ _ _ _ ls C0 (hw.set he1 hc1 e2 (by rw [am_vsz, am_vsz]) (by simp) oq e2) (fun q hq => by
      rcases List.mem_append.mp hq with h | h
      · exact hA q h
      · obtain ⟨z, -, hz⟩ := List.mem_map.mp h
        rw [← hz]
        exact (hw.2.2.2.2.2 a _ he1).1) hl _ hheap X'
  exact ⟨t, step t a1, b1⟩
/-- which classes may stand in an array of E -/
def am_may (E : String) (cs : List Nat) : Prop := ∀ ci ∈ cs, ∃ (Cn : String) (T : u_T) (N : Nat), am_cl[ci]? = some (Cn, T, N) ∧ (Cn = E ∨ Cond.castable Cn E ∈ lw_tbl)
theorem am_acopyq {index τ a0 a n0 n1 : Nat} {E : String} {cs : List Nat} {f g : Nat → Option Nat} {sp dp n : Int32} (hlink : Cond.methodLink M.1.cls index arraycopyName ∈ lw_all) (hnat : Cond.native arraycopyName ∈ lw_all) (hstat : Cond.static arraycopyName ∈ lw_all) (hini : Cond.initialized "java/lang/System" ∈ lw_all) (ht : am_tyl[τ]? = some (.object E)) (hcs : am_may E cs) (he0 : σ.1 a0 = some (.inl (τ, n0, .inr (.inr (.inr (.inr f)))))) (he1 : σ.1 a = some (.inl (τ, n1, .inr (.inr (.inr (.inr g)))))) (h1 : ¬ sp < 0) (h2 : ¬ dp < 0) (h3 : ¬ n < 0) (h4 : sp.toNatClampNeg + n.toNatClampNeg ≤ n0) (h5 : dp.toNatClampNeg + n.toNatClampNeg ≤ n1) (hel : ∀ i, i < n.toNatClampNeg → ∀ y, f (sp.toNatClampNeg + i) = some y → ∃ ci fv, ci ∈ cs ∧ σ.1 y = some (.inr (ci, fv))) (hst : rest.length ≤ 8) (hdg : decode M.2.1 pc = .ok (.invokestatic index, 3))
    (kk : am_Wp G M (pc + 3) (d + 1) L rest (am_up σ a (.inl (τ, n1, .inr (.inr (.inr (.inr (va_cpy f g sp.toNatClampNeg dp.toNatClampNeg n.toNatClampNeg))))))) Q) : am_Wp G M pc (d + 1) L (.int n :: .int dp :: .ref a :: .int sp :: .ref a0 :: rest) σ Q := by
  intro p e R s m args below meth c H locs cells slots ls C hw hA hl
  have C0 := C
  obtain ⟨hx, hb, hr, hml, hown, hlocks, hname, htab, hfr, hroom, ⟨hoK, haK, hwK⟩, hsK, hhK⟩ := C
  have hm := am_mon m pc ls rest rest hst
  have hf1 := hfr.1
  have hf2 := hfr.2
  have hmon : (F0 m pc ls rest).monitorRoom = 0 := rfl
  rw [hmon] at hm
  have hnw : nativeFrameWords "java/lang/System" "arraycopy" 5 ≤ 37 := by decide +kernel
  have nn := am_nn
  intro T hT X
  have hc0 : H[a0]? = some (vp_cell (am_c G τ) (n0, .inr (.inr (.inr (.inr f))))) := (hw.2.2.2.2.2 a0 _ he0).2
  have hc1 : H[a]? = some (vp_cell (am_c G τ) (n1, .inr (.inr (.inr (.inr g))))) := (hw.2.2.2.2.2 a _ he1).2
  obtain ⟨-, k0, hk0, cm0, hkk0⟩ := (haK τ _ ht).1 n0 (fun j => va_rf (f j))
  obtain ⟨-, k1, hk1, cm1, hkk1⟩ := (haK τ _ ht).1 n1 (fun j => va_rf (g j))
  obtain ⟨vm', X', step⟩ := X.arraycopy hx hown (hwK.1 _ hlink args) (hwK.1 _ hnat args) (hwK.1 _ hstat args) (hwK.1 _ hini args) (src := a0) (dst := a) (cs := vp_cell (am_c G τ) (n0, .inr (.inr (.inr (.inr f))))) (cd := vp_cell (am_c G τ) (n1, .inr (.inr (.inr (.inr g))))) (srcPos := sp) (destPos := dp) (n := n) (by rw [hT]; exact hc0) (by rw [hT]; exact hc1)
    (fun _ h => by cases h) (fun _ h => by cases h) (fun h => by cases h) (fun h => by cases h) hk0 hk1 hkk0 hkk1 rfl h1 h2 h3
    (by rw [nn sp h1, nn n h3]; show ¬ _ > ((arrV _ n0 (fun j => va_rf (f j))).slots.size : Int); rw [arrV_size]; omega)
    (by rw [nn dp h2, nn n h3]; show ¬ _ > ((arrV _ n1 (fun j => va_rf (g j))).slots.size : Int); rw [arrV_size]; omega)
    (fun vm₁ hal i hi => by
      have e : (vp_cell (am_c G τ) (n0, .inr (.inr (.inr (.inr f))))).slots.getD (sp.toNatClampNeg + i) .null = va_rf (f (sp.toNatClampNeg + i)) := by
        show (arrV _ n0 (fun j => va_rf (f j))).slots.getD _ _ = _
        rw [Array.getD_eq_getD_getElem?, arrV_read _ _ (by omega)]
        rfl
      rw [e]
      cases hy : f (sp.toNatClampNeg + i) with
      | none => exact ⟨rfl, trivial⟩
      | some y =>
        obtain ⟨ci, fv, hci, hyv⟩ := hel i hi y hy
        obtain ⟨Cn, T9, N9, hcl9, hcast⟩ := hcs ci hci
        obtain ⟨-, r9, hr9, cellV, g1, g2, g3, -⟩ := hw.2.2.2.2.2 y _ hyv
        have hr8 : r9 = (Cn, T9, N9) := Option.some.inj (hr9.symm.trans hcl9)
        subst hr8
        have hcls := (hoK ci _ hcl9).2
        obtain ⟨kC, hkC, -⟩ := hcls.2
        obtain ⟨kA, comp, r1, r2, r3, -⟩ := (haK τ _ ht).2
        cases hk1.symm.trans r1
        cases hkk1.symm.trans r2
        obtain ⟨kE, hkE, -⟩ := Vm.findClass_spec r3
        have hasg : ∀ comp' : ClassId, s.vm.findClass E = some comp' → s.vm.assignable ((am_D G).1 ci) comp' = true := by
          intro comp' r3
          rcases hcast with h | h
          · have e1 : comp' = (am_D G).1 ci := Option.some.inj (r3.symm.trans (by rw [← h]; exact hcls.1))
            rw [e1]; exact va_assign hcls
          · obtain ⟨c3, c4, hc3, hc4, hasg⟩ := Cond.castable_spec (args := #[]) (hwK.2 _ h rfl)
            have e1 : c3 = (am_D G).1 ci := Option.some.inj (hc3.symm.trans hcls.1)
            have e2 : c4 = comp' := Option.some.inj (hc4.symm.trans r3)
            rw [← e1, ← e2]; exact hasg
        obtain ⟨kC', hkC', -⟩ := hal.2.2 _ _ hkC
        obtain ⟨kE', hkE', -⟩ := hal.2.2 _ _ hkE
        refine ⟨rfl, cellV, (show T.heap[y]? = some cellV by rw [hT]; exact g1), (fun q h => by rw [g3] at h; cases h), ⟨kC', by rw [g2]; exact hkC'⟩, ?_, ?_⟩
        · exact ⟨kE', hkE'⟩
        · show vm₁.assignable _ _ = true
          rw [hal.assignable, g2]
          exact hasg _ r3)
    (g := F0 m pc ls (.int n :: .int dp :: .ref a :: .int sp :: .ref a0 :: rest)) rfl (by rw [hml]; exact hl.1) (rest := rest) rfl (by rw [hb]; exact hdg) (by omega) (by show 2 * 0 + _ + _ ≤ _; omega)
  have e1 : copied (vp_cell (am_c G τ) (n0, .inr (.inr (.inr (.inr f))))) (vp_cell (am_c G τ) (n1, .inr (.inr (.inr (.inr g))))) sp dp n = vp_cell (am_c G τ) (n1, .inr (.inr (.inr (.inr (va_cpy f g sp.toNatClampNeg dp.toNatClampNeg n.toNatClampNeg))))) := by
    rw [vp_cell_q, vp_cell_q, vp_cell_q]
    exact va_copied (fun z => va_rf z) _ _ f g h4
  rw [e1] at X' step
  have hlt : a < H.size := (Array.getElem?_eq_some_iff.mp hc1).1
  generalize hcv : vp_cell (am_c G τ) (n1, .inr (.inr (.inr (.inr (va_cpy f g sp.toNatClampNeg dp.toNatClampNeg n.toNatClampNeg))))) = cv at X' step
  have hheap : ((T.setVm vm').setCell a cv).heap = H.setIfInBounds a cv := by rw [← hT]; rfl
  have oq : ∀ q : Nat, q ≠ a → (H.setIfInBounds a cv)[q]? = H[q]? := fun q hq => by simp [Array.getElem?_setIfInBounds, Ne.symm hq]
  have e2 : (H.setIfInBounds a cv)[a]? = some cv := by simp [Array.getElem?_setIfInBounds, hlt]
  obtain ⟨t, a1, b1⟩ := kk p e R s m args below meth c _ _ _ _ ls C0 (hw.set he1 hc1 e2 (by rw [← hcv, am_vsz, am_vsz]) (by simp) oq (by rw [← hcv] at e2 ⊢; exact e2)) (fun q hq => by
      rcases List.mem_append.mp hq with h | h
      · exact hA q h
      · obtain ⟨z, -, hz⟩ := List.mem_map.mp h
        rw [← hz]
        exact (hw.2.2.2.2.2 a _ he1).1) hl _ hheap X'
  exact ⟨t, step t a1, b1⟩
theorem am_checkcast {index a ci : Nat} {Cn nm : String} {T : u_T} {N : Nat} {ty : Nat → FieldType} {f : Nat → Value} (hI : am_inf ci Cn T N ty) (he : σ.1 a = some (.inr (ci, f))) (hlink : Cond.classLink M.1.cls index nm ∈ lw_all) (hc : Cn = nm ∨ Cond.castable Cn nm ∈ lw_tbl) (hdg : decode M.2.1 pc = .ok (.checkcast index, 3)) (k : am_Wp G M (pc + 3) d L (.ref a :: rest) σ Q) : am_Wp G M pc d L (.ref a :: rest) σ Q := by
  intro p e R s m args below meth c H locs cells slots ls C hw hA hl
  have k := k p e R s m args below meth c H locs cells slots ls C hw hA hl
  obtain ⟨hx, hb, hr, hml, hown, hlocks, hname, htab, hfr, hroom, ⟨hoK, haK, hwK⟩, hsK, hhK⟩ := C
  have hrv := am_recv hoK hw hI he
  rcases hc with h | h
  · subst h
    exact va_castS hx hb hown (hwK.1 _ hlink args) (hoK ci _ hI.1).2 hrv hdg k
  · exact va_castY hx hb hown (hwK.1 _ hlink args) (hwK.2 _ h rfl) hrv hdg k
theorem am_instY {index a ci : Nat} {Cn nm : String} {T : u_T} {N : Nat} {ty : Nat → FieldType} {f : Nat → Value} (hI : am_inf ci Cn T N ty) (he : σ.1 a = some (.inr (ci, f))) (hlink : Cond.classLink M.1.cls index nm ∈ lw_all) (hc : Cn = nm ∨ Cond.castable Cn nm ∈ lw_tbl) (hdg : decode M.2.1 pc = .ok (.instanceof index, 3)) (k : am_Wp G M (pc + 3) d L (.int 1 :: rest) σ Q) : am_Wp G M pc d L (.ref a :: rest) σ Q := by
  intro p e R s m args below meth c H locs cells slots ls C hw hA hl
  have k := k p e R s m args below meth c H locs cells slots ls C hw hA hl
  obtain ⟨hx, hb, hr, hml, hown, hlocks, hname, htab, hfr, hroom, ⟨hoK, haK, hwK⟩, hsK, hhK⟩ := C
  have hrv := am_recv hoK hw hI he
  rcases hc with h | h
  · subst h
    exact va_instS hx hb hown (hwK.1 _ hlink args) (hoK ci _ hI.1).2 hrv hdg k
  · exact va_instY hx hb hown (hwK.1 _ hlink args) (hwK.2 _ h rfl) hrv hdg k
theorem am_instNo {index a ci : Nat} {Cn nm : String} {T : u_T} {N : Nat} {ty : Nat → FieldType} {f : Nat → Value} (hI : am_inf ci Cn T N ty) (he : σ.1 a = some (.inr (ci, f))) (hlink : Cond.classLink M.1.cls index nm ∈ lw_all) (hc : (Cn, nm) ∈ am_ncs) (hdg : decode M.2.1 pc = .ok (.instanceof index, 3)) (k : am_Wp G M (pc + 3) d L (.int 0 :: rest) σ Q) : am_Wp G M pc d L (.ref a :: rest) σ Q := by
  intro p e R s m args below meth c H locs cells slots ls C hw hA hl
  have k := k p e R s m args below meth c H locs cells slots ls C hw hA hl
  obtain ⟨hx, hb, hr, hml, hown, hlocks, hname, htab, hfr, hroom, ⟨hoK, haK, hwK⟩, hsK, hhK⟩ := C
  exact va_instNo hx hb hown (hwK.1 _ hlink args) (hsK.2.1 _ hc) (am_recv hoK hw hI he) hdg k
theorem am_getstatic {index i : Nat} {C n t : String} (hi : am_stl[i]? = some (C, n, t)) (hlink : Cond.fieldLink M.1.cls index C n t ∈ lw_all) (hdg : decode M.2.1 pc = .ok (.getstatic index, 3)) (k : am_Wp G M (pc + 3) d L (am_st G i :: rest) σ Q) : am_Wp G M pc d L rest σ Q := by
  intro p e R s m args below meth c H locs cells slots ls C hw hA hl T0 hT X
  have k := k p e R s m args below meth c H locs cells slots ls C hw hA hl
  obtain ⟨hx, hb, hr, hml, hown, hlocks, hname, htab, hfr, hroom, ⟨hoK, haK, hwK⟩, hsK, hhK⟩ := C
  exact va_gets hx hb (hhK.2.1 i _ hi) ⟨by rw [← hT]; exact X.same.2.1, fun q h1 h2 => by rw [← hT]; exact am_frame X hA q h1 h2, hA⟩ hown (hwK.1 _ hlink args) (fun _ h => h) hdg k T0 hT X
theorem am_ldc {index : Nat} {v : Int32} (hc : Cond.constant M.1.cls index v ∈ lw_all) (hdg : decode M.2.1 pc = .ok (.ldc index, 2)) (k : am_Wp G M (pc + 2) d L (.int v :: rest) σ Q) : am_Wp G M pc d L rest σ Q := fun p e R s m args below meth c H locs cells slots ls C hw hA hl => lv_ldc C.1 C.2.1 C.2.2.2.2.1 (C.2.2.2.2.2.2.2.2.2.2.1.2.2.1 _ hc args) hdg (k p e R s m args below meth c H locs cells slots ls C hw hA hl)
theorem am_ldcw {index : Nat} {v : Int32} (hc : Cond.constant M.1.cls index v ∈ lw_all) (hdg : decode M.2.1 pc = .ok (.ldc_w index, 3)) (k : am_Wp G M (pc + 3) d L (.int v :: rest) σ Q) : am_Wp G M pc d L rest σ Q := fun p e R s m args below meth c H locs cells slots ls C hw hA hl => lv_ldcw C.1 C.2.1 C.2.2.2.2.1 (C.2.2.2.2.2.2.2.2.2.2.1.2.2.1 _ hc args) hdg (k p e R s m args below meth c H locs cells slots ls C hw hA hl)
theorem am_nodup0 : ∀ i, i < 23 → ∀ j, j < 23 → am_txs[i]? = am_txs[j]? → i = j := by decide +kernel
theorem am_nodup (i j : Nat) (hi : i < 23) (hj : j < 23) : am_txs[i]? = am_txs[j]? → i = j := am_nodup0 i hi j hj
theorem am_ldcS {index i : Nat} {tx : String} (hi : am_txs[i]? = some tx) (hc : Cond.stringRef M.1.cls index tx ∈ lw_tbl) (hdg : decode M.2.1 pc = .ok (.ldc index, 2)) (k : am_Wp G M (pc + 2) d L (.ref (am_sk G i) :: rest) σ Q) : am_Wp G M pc d L rest σ Q := by
  intro p e R s m args below meth c H locs cells slots ls C hw hA hl
  have k := k p e R s m args below meth c H locs cells slots ls C hw hA hl
  obtain ⟨hx, hb, hr, hml, hown, hlocks, hname, htab, hfr, hroom, ⟨hoK, haK, hwK⟩, hsK, hhK⟩ := C
  obtain ⟨j, h1, h2, h3⟩ := hsK.1 _ _ _ hc
  have hij : i = j := am_nodup i j (by have := (List.getElem?_eq_some_iff.mp hi).1; exact this) h1 (hi.trans h2.symm)
  subst hij
  exact va_ldcS hx hb hown h3 hdg k
theorem am_ldcwS {index i : Nat} {tx : String} (hi : am_txs[i]? = some tx) (hc : Cond.stringRef M.1.cls index tx ∈ lw_tbl) (hdg : decode M.2.1 pc = .ok (.ldc_w index, 3)) (k : am_Wp G M (pc + 3) d L (.ref (am_sk G i) :: rest) σ Q) : am_Wp G M pc d L rest σ Q := by
  intro p e R s m args below meth c H locs cells slots ls C hw hA hl T hT X
  have k := k p e R s m args below meth c H locs cells slots ls C hw hA hl
  obtain ⟨hx, hb, hr, hml, hown, hlocks, hname, htab, hfr, hroom, ⟨hoK, haK, hwK⟩, hsK, hhK⟩ := C
  obtain ⟨j, h1, h2, h3⟩ := hsK.1 _ _ _ hc
  have hij : i = j := am_nodup i j (by have := (List.getElem?_eq_some_iff.mp hi).1; exact this) h1 (hi.trans h2.symm)
  subst hij
  obtain ⟨t, a1, b1⟩ := k T hT X
  exact ⟨t, X.ldcStringW hx hown (text := tx) (a := am_sk G i) h3.1 h3.2 (g := F0 m pc ls rest) rfl (by rw [hb]; exact hdg) t a1, b1⟩
end
