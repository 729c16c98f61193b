set_option maxRecDepth 100000
/-! ===== arrays of arrays are made ===== -/
section
variable {G : am_G} {M : am_M} {pc d : Nat} {L : List (Nat × Value)} {rest : List Value} {σ : am_S} {Q : am_R → am_S → Prop}
theorem am_anewA {index τ N : Nat} {ty : FieldType} {nm : String} {n : Int32} (hlink : Cond.classLink M.1.cls index nm ∈ lw_all) (hnm : (FieldType.array ty).toString = nm) (hover : Cond.arrayOver (.array ty) ∈ lw_tbl) (ht : am_tyl[τ]? = some (.array ty)) (hra : ∀ s : State, va_RA s (am_c G τ) (.array ty) → s.vm.findClass ("[" ++ (FieldType.array ty).toString) = some (am_c G τ)) (hn : n = nI N) (hN : N ≤ 65536) (hdg : decode M.2.1 pc = .ok (.anewarray index, 3)) (hc : σ.2.1 + 1 ≤ am_bc G) (hs : σ.2.2 + N ≤ am_bs G)
    (kk : am_Wp G M (pc + 3) d L (.ref σ.2.1 :: rest) (am_nw σ (.inl (τ, N, .inr (.inr (.inr (.inr (fun _ => none)))))) N) Q) : am_Wp G M pc d L (.int n :: rest) σ Q := by
  intro p e R s m args below meth c H locs cells slots ls C hw hA hl
  have C0 := C
  obtain ⟨hx, hb, hr, hml, hown, hlocks, hname, htab, hfr, hroom, ⟨hoK, haK, hwK⟩, hsK, hhK⟩ := C
  intro T0 hT X
  subst hT
  have hg : am_used (am_z G) T0.heap = am_used (am_z G) s.heap + ((T0.heap.toList.drop s.heap.size).map (fun c : Cell => c.slots.size)).sum := am_grow X hroom.2.2
  have hsz : s.heap.size ≤ T0.heap.size := X.same.2.1
  have hw1 : T0.heap.size = σ.2.1 := hw.1
  have hw2 : am_used (am_z G) T0.heap = σ.2.2 := hw.2.1
  have hr1 : am_bc G ≤ s.heap.size + R.cells := hroom.1
  have hr2 : am_bs G ≤ am_used (am_z G) s.heap + R.slots := hroom.2.1
  have X1 := am_tight X
  generalize hbc : am_bc G = bc at hc hr1
  generalize hbs : am_bs G = bs at hs hr2
  have hNN : n.toNatClampNeg = N := by rw [hn]; exact nI_clamp (by omega)
  have hnn : ¬ n < 0 := by rw [hn]; exact nI_pos (by omega)
  have hcells : T0.heap.size - s.heap.size + 1 ≤ R.cells := by omega
  have hslots : ((T0.heap.toList.drop s.heap.size).map (fun c : Cell => c.slots.size)).sum + n.toNatClampNeg ≤ R.slots := by rw [hNN]; omega
  have hpl : e.platform.magicAccessors = ({} : Platform).magicAccessors := by rw [X1.admits.platform]
  obtain ⟨comp, cA, kA, h1, h2, h3, h4, h5⟩ := am_AO1 (hwK.2 _ hover rfl)
  have hcA : cA = am_c G τ := Option.some.inj (h5.symm.trans (hra s (haK τ _ ht).2))
  subst hcA
  obtain ⟨kComp, hkComp, -⟩ := Vm.findClass_spec h1
  subst hnm
  obtain ⟨cc, hfcc, hcl⟩ := Cond.classLink_spec hown (hwK.1 _ hlink args) e.platform hpl
  cases h1.symm.trans hfcc
  obtain ⟨hg1, hwarm, hready⟩ := State.classEntry (e := e) X1.warmed hcl
  generalize T0.vm.noted m.cls index (.cls comp) = vm1 at hg1 hwarm hready
  have hal : s.vm.Alike vm1 := hwarm.alike
  obtain ⟨kComp1, hkComp1, -⟩ := hal.2.2 _ _ hkComp
  obtain ⟨kA1, hkA1, heA⟩ := hal.2.2 _ _ h3
  have hkindA1 : kA1.kind = .array comp (.array ty) := by rw [heA]; exact h4
  have hidx1 : (vm1.classes.findIdx? fun (x : Class) => match x.kind with | .array component _ => component == comp | _ => false) = some (am_c G τ) := by
    rw [hal.findIdx?_eqK _ (fun _ => rfl)]; exact h2
  have hlimit : ¬ n.toNatClampNeg > e.platform.arrayLengthLimit := by rw [Launch.admits_arrayLengthLimit X1.admits]; omega
  have hheap : ¬ n.toNatClampNeg * componentBytes (.array ty) > e.platform.maxHeapBytes := by
    rw [Launch.admits_maxHeapBytes X1.admits]; show ¬ n.toNatClampNeg * 4 > 536870912; omega
  have X2 := (X1.noted hwarm).pushed { cls := am_c G τ, slots := Array.replicate n.toNatClampNeg .null, vm := .none }
  obtain ⟨hra1, hra2⟩ := X1.roomAbove hcells hslots
  have e2 : (T0.heap.push ({ cls := am_c G τ, slots := Array.replicate n.toNatClampNeg .null, vm := .none } : Cell))[T0.heap.size]? = some (vp_cell (am_c G τ) (N, .inr (.inr (.inr (.inr (fun _ => none)))))) := by
    rw [Array.getElem?_push_size, ← hNN, vp_cell_q]
    exact congrArg some (arrV_new _ _ _)
  have hcz : (vp_cell (am_c G τ) (N, .inr (.inr (.inr (.inr (fun _ => none)))))).slots.size = N := by rw [am_vsz]
  have hnew := hw.new (H1 := T0.heap.push ({ cls := am_c G τ, slots := Array.replicate n.toNatClampNeg .null, vm := .none } : Cell)) (by simp) e2 (fun q hq => by rw [Array.getElem?_push, if_neg (Nat.ne_of_lt hq)]) (by rw [hbc]; exact hc) (by rw [hcz, hbs]; exact hs) (e := .inl (τ, N, .inr (.inr (.inr (.inr (fun _ => none)))))) e2
  rw [hcz] at hnew
  obtain ⟨t, b1, b2⟩ := kk p e R s m args below meth c _ _ _ _ ls C0 hnew hA hl ((T0.setVm vm1).pushCell { cls := am_c G τ, slots := Array.replicate n.toNatClampNeg .null, vm := .none }) rfl (by simpa using X2)
  refine ⟨t, ?_, b2⟩
  jvm_step X1.here [hx, hb, hdg, anewarray.wp_cold (e := e) (s := T0) (f := F0 m pc ls (.int n :: rest)) X1.here.top hg1 hready,
    anewarray.wp_ready (e := e) (s := T0.setVm vm1) (f := F0 m pc ls (.int n :: rest)) (kc := kComp1) (k := kA1) (type := .array ty) X1.here.top hready hkComp1 hidx1 hkA1 hkindA1 rfl rfl hnn hlimit hheap]
  refine ⟨by show T0.heap.size < _; omega, by show T0.slotsUsed + _ ≤ _; exact hra2, ?_⟩
  rw [← hw1] at b1
  exact b1
/-- N rows of K each -/
def am_mn (σ : am_S) (τ t N K : Nat) (x : vp_A) : am_S := (fun q => if q = σ.2.1 then some (.inl (τ, N, .inr (.inr (.inr (.inr (fun j => some (σ.2.1 + 1 + j))))))) else if σ.2.1 < q ∧ q ≤ σ.2.1 + N then some (.inl (t, x)) else σ.1 q, σ.2.1 + 1 + N, σ.2.2 + (N + N * K))
theorem am_sumr (N K : Nat) : (List.replicate N K).sum = N * K := by
  induction N with
  | zero => simp
  | succ N ih => rw [List.replicate_succ, List.sum_cons, ih, Nat.succ_mul, Nat.add_comm]
theorem am_outer (c : ClassId) (N h0 : Nat) : ∀ i, ∃ sl, Jvm.Free.Multi.outerC c N h0 i = { cls := c, slots := sl, vm := .none }
  | 0 => ⟨_, rfl⟩
  | i + 1 => by
    obtain ⟨sl, h⟩ := am_outer c N h0 i
    exact ⟨sl.setIfInBounds i (.ref (h0 + 1 + i)), (congrArg (fun o : Cell => o.setSlot i (.ref (h0 + 1 + i))) h).trans rfl⟩
theorem am_mna {index τ t N K : Nat} {ty : FieldType} {nm : String} {n k : Int32} {x : vp_A} (hlink : Cond.classLink M.1.cls index nm ∈ lw_all) (hnm : "[" ++ (FieldType.array ty).toString = nm) (hover : Cond.arrayOver (.array ty) ∈ lw_tbl) (harr : Cond.arrayClass ty ∈ lw_all) (ht : am_tyl[τ]? = some (.array ty)) (ht' : am_tyl[t]? = some ty) (hra : ∀ s : State, va_RA s (am_c G τ) (.array ty) → s.vm.findClass ("[" ++ (FieldType.array ty).toString) = some (am_c G τ)) (hrb : ∀ s : State, va_RA s (am_c G t) ty → s.vm.findClass (FieldType.array ty).toString = some (am_c G t))
    (hx0 : ∀ cA : ClassId, vp_cell cA x = { cls := cA, slots := Array.replicate K (defaultValue ty), vm := .none }) (hxK : x.1 = K) (hdf : fits ty (defaultValue ty) = true) (hdd : (defaultValue ty).isDefault = true) (hcb : componentBytes ty ≤ 8) (hn : n = nI N) (hk : k = nI K) (hN : N ≤ 65536) (hK : K ≤ 65536) (hdg : decode M.2.1 pc = .ok (.multianewarray index 2, 4)) (hc : σ.2.1 + 1 + N ≤ am_bc G) (hs : σ.2.2 + (N + N * K) ≤ am_bs G)
    (kk : am_Wp G M (pc + 4) d L (.ref σ.2.1 :: rest) (am_mn σ τ t N K x) Q) : am_Wp G M pc d L (.int k :: .int n :: rest) σ Q := by
  intro p e R s m args below meth c H locs cells slots ls C hw hA hl
  have C0 := C
  obtain ⟨hx, hb, hr, hml, hown, hlocks, hname, htab, hfr, hroom, ⟨hoK, haK, hwK⟩, hsK, hhK⟩ := C
  intro T0 hT X
  subst hT
  have hg : am_used (am_z G) T0.heap = am_used (am_z G) s.heap + ((T0.heap.toList.drop s.heap.size).map (fun c : Cell => c.slots.size)).sum := am_grow X hroom.2.2
  have hsz : s.heap.size ≤ T0.heap.size := X.same.2.1
  have hw1 : T0.heap.size = σ.2.1 := hw.1
  have hw2 : am_used (am_z G) T0.heap = σ.2.2 := hw.2.1
  have hr1 : am_bc G ≤ s.heap.size + R.cells := hroom.1
  have hr2 : am_bs G ≤ am_used (am_z G) s.heap + R.slots := hroom.2.1
  have X1 := am_tight X
  generalize hbc : am_bc G = bc at hc hr1
  generalize hbs : am_bs G = bs at hs hr2
  have hNN : n.toNatClampNeg = N := by rw [hn]; exact nI_clamp (by omega)
  have hnn : ¬ n < 0 := by rw [hn]; exact nI_pos (by omega)
  have hKK : k.toNatClampNeg = K := by rw [hk]; exact nI_clamp (by omega)
  have hkk : ¬ k < 0 := by rw [hk]; exact nI_pos (by omega)
  have hmul : K * componentBytes ty ≤ K * 8 := Nat.mul_le_mul (Nat.le_refl _) hcb
  subst hnm
  obtain ⟨vm1, cA, comp, hW, hfA, hfC, -, -, X2, st⟩ := X1.multianewarray2F hx hown (hwK.1 _ hlink args) (ty := ty) (by exact hwK.2 _ hover rfl) (hwK.1 _ harr args) (g := F0 m pc ls (.int k :: .int n :: rest)) rfl (by rw [hb]; exact hdg) (n := n) (k := k) (rest := rest) rfl hnn hkk (by rw [hNN]; omega) (by rw [hKK]; omega) (by rw [hKK]; omega) hdf hdd (by rw [hNN]; omega) (by rw [hNN, hKK]; omega)
  have hcA : cA = am_c G τ := Option.some.inj (hfA.symm.trans (hra s (haK τ _ ht).2))
  have hcC : comp = am_c G t := Option.some.inj (hfC.symm.trans (hrb s (haK t _ ht').2))
  subst hcA; subst hcC
  rw [hNN, hKK] at X2 st
  generalize hF : Jvm.Free.Multi.fill (T0.setVm vm1) (am_c G τ) (am_c G t) N K (defaultValue ty) N = F at X2 st
  have hsv : (T0.setVm vm1).heap.size = T0.heap.size := rfl
  have f1 : F.heap.size = T0.heap.size + 1 + N := by rw [← hF, (Jvm.Free.Multi.fill_facts _ _ _ _ _ _ _).1, hsv]
  have f2 : F.heap[T0.heap.size]? = some (vp_cell (am_c G τ) (N, .inr (.inr (.inr (.inr (fun j => some (T0.heap.size + 1 + j))))))) := by
    have h := (Jvm.Free.Multi.fill_facts (T0.setVm vm1) (am_c G τ) (am_c G t) N K (defaultValue ty) N).2.1
    rw [hF, hsv] at h
    rw [h]
    obtain ⟨g1, g2, g3⟩ := Jvm.Free.Multi.outerC_facts (am_c G τ) N T0.heap.size N
    have g4 : ∀ j, j < N → (Jvm.Free.Multi.outerC (am_c G τ) N T0.heap.size N).slots[j]? = some (.ref (T0.heap.size + 1 + j)) := fun j hj => by rw [Jvm.Free.Multi.outerC_slot _ _ _ _ j hj, if_pos hj]
    obtain ⟨sl, e1⟩ := am_outer (am_c G τ) N T0.heap.size N
    rw [e1] at g3 g4 ⊢
    dsimp only at g3 g4
    rw [vp_cell_q]
    unfold arrV
    congr 2
    apply Array.ext
    · rw [g3]; simp
    · intro j h1 h2
      have h3 := g4 j (by omega)
      rw [Array.getElem?_eq_getElem h1] at h3
      rw [Option.some.inj h3]
      simp [va_rf]
  have f3 : ∀ j, j < N → F.heap[T0.heap.size + 1 + j]? = some (vp_cell (am_c G t) x) := by
    intro j hj
    have h := Jvm.Free.Multi.fill_inner (T0.setVm vm1) (am_c G τ) (am_c G t) N K (defaultValue ty) N j hj
    rw [hF, hsv] at h
    rw [h, hx0]
    rfl
  have f4 : ∀ q, q < T0.heap.size → F.heap[q]? = T0.heap[q]? := by
    intro q hq
    have h := Jvm.Free.Multi.fill_old (T0.setVm vm1) (am_c G τ) (am_c G t) N K (defaultValue ty) (a := q) hq N
    rw [hF] at h
    exact h
  have hz : am_z G ≤ T0.heap.size := by have := hroom.2.2; omega
  have hus : am_used (am_z G) F.heap = σ.2.2 + (N + N * K) := by
    rw [am_used_app (H := T0.heap) hz (by omega) (fun q hq => by rw [f4 q hq]), hw2]
    congr 1
    have e9 : (F.heap.toList.drop T0.heap.size).map (fun c : Cell => c.slots.size) = N :: List.replicate N K := by
      apply List.ext_getElem?
      intro i
      rw [List.getElem?_map, List.getElem?_drop, Array.getElem?_toList]
      rcases i with _ | i
      · rw [Nat.add_zero, f2]
        simp [am_vsz]
      · by_cases hi : i < N
        · rw [show T0.heap.size + (i + 1) = T0.heap.size + 1 + i by omega, f3 i hi]
          simp [am_vsz, hxK, hi]
        · rw [Array.getElem?_eq_none (by omega)]
          simp [hi]
    rw [e9, List.sum_cons, am_sumr]
  have hnew : am_hw G (am_mn σ τ t N K x) F.heap := by
    refine ⟨by rw [f1, hw1]; rfl, hus, by rw [hbc]; exact hc, by rw [hbs]; exact hs, by show am_z G ≤ σ.2.1 + 1 + N; omega, fun q e0 hq => ?_⟩
    unfold am_mn at hq
    dsimp only at hq
    by_cases h1 : q = σ.2.1
    · rw [if_pos h1] at hq
      cases hq
      subst h1
      refine ⟨by show am_z G ≤ _; omega, ?_⟩
      show F.heap[σ.2.1]? = _
      rw [← hw1]
      exact f2
    · rw [if_neg h1] at hq
      by_cases h2 : σ.2.1 < q ∧ q ≤ σ.2.1 + N
      · rw [if_pos h2] at hq
        cases hq
        refine ⟨by show am_z G ≤ _; omega, ?_⟩
        show F.heap[q]? = _
        have := f3 (q - σ.2.1 - 1) (by omega)
        rw [show T0.heap.size + 1 + (q - σ.2.1 - 1) = q by omega] at this
        exact this
      · rw [if_neg h2] at hq
        obtain ⟨a1, a2⟩ := hw.2.2.2.2.2 q _ hq
        exact ⟨a1, a2.kept (f4 q a2.lt)⟩
  obtain ⟨t9, b1, b2⟩ := kk p e R s m args below meth c _ _ _ _ ls C0 hnew hA hl F rfl X2
  refine ⟨t9, st t9 ?_, b2⟩
  rw [hw1]
  exact b1
end
