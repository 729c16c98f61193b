set_option maxRecDepth 100000
/-! ===== arrays of arrays, arrays of String constants, clones ===== -/
section
variable {G : am_G} {M : am_M} {pc d : Nat} {L : List (Nat × Value)} {rest : List Value} {σ : am_S} {Q : am_R → am_S → Prop}
theorem am_upq {cA : ClassId} {n : Nat} {f : Nat → Option Nat} {j v : Nat} {H1 : Heap} {a : Nat} {c : Cell} (e1 : H1[a]? = some ((vp_cell cA (n, .inr (.inr (.inr (.inr f))))).setSlot j (.ref v))) : H1[a]? = some (vp_cell cA (n, .inr (.inr (.inr (.inr (va_up f j (some v))))))) := by
  rw [e1]
  rw [vp_cell_q, vp_cell_q, arrV_store]
  congr 2
  funext q
  by_cases hq : q = j
  · subst hq
    simp [updV, va_up, va_rf]
  · simp [updV, va_up, hq]
/-- a String constant stored -/
theorem am_aastK {a n j : Nat} {f : Nat → Option Nat} {i : Int32} (hj : j < 23) (hdg : decode M.2.1 pc = .ok (.aastore, 1)) (he : σ.1 a = some (.inl (5, n, .inr (.inr (.inr (.inr f)))))) (hin : vp_in i n)
    (kk : am_Wp G M (pc + 1) d L rest (am_up σ a (.inl (5, n, .inr (.inr (.inr (.inr (va_up f i.toNatClampNeg (some (am_sk G j))))))))) Q) : am_Wp G M pc d L (.ref (am_sk G j) :: .int i :: .ref a :: rest) σ Q := by
  intro p e R s m args below meth c H locs cells slots ls C hw hA hl T0 hT X
  have C0 := C
  obtain ⟨hx, hb, hr, hml, hown, hlocks, hname, htab, hfr, hroom, ⟨hoK, haK, hwK⟩, hsK, hhK⟩ := C
  have hlt : i.toNatClampNeg < n := Nat.not_le.mp fun q => hin (Or.inr q)
  have h0 : ¬ i < 0 := fun q => hin (Or.inl q)
  have ha := hw.2.2.2.2.2 a _ he
  obtain ⟨cellV, g1, g3, g2⟩ := va_Orecv (hhK.1 j hj).1 (am_vaS X hT hA)
  have hcls := (hoK 35 _ rfl).2
  obtain ⟨kA, comp, k1, k2, k3, -⟩ := (haK 5 _ rfl).2
  obtain ⟨kC, hkC, -⟩ := hcls.2
  have e1 : comp = (am_D G).1 35 := Option.some.inj (k3.symm.trans hcls.1)
  have e9 : cellV.cls = (am_D G).1 35 := Option.some.inj (g2.symm.trans hcls.1)
  subst e1
  refine W.aast (g := F0 m pc ls (.ref (am_sk G j) :: .int i :: .ref a :: rest)) (Q := am_end G Q below args s R) hx hb ha.2 (fun q h => by cases h) (fun h => by cases h) k1 k2 rfl hkC ⟨h0, by show _ < (arrV _ _ _).slots.size; rw [arrV_size]; exact hlt⟩ g1 (fun q h => by rw [h] at g3; cases g3) (by rw [e9]; exact hkC) (by rw [e9]; exact va_assign hcls) rfl rfl hdg (fun H1 e1 z oq => ?_) T0 hT X
  have e2 := am_upq (c := cellV) e1
  exact kk p e R s m args below meth c H1 _ cells slots ls C0 (hw.set he ha.2 e2 (by rw [am_vsz, am_vsz]) z oq e2) (am_app hA ha.1) hl
/-- an array stored in an array of arrays -/
theorem am_aastA {τ t a n v : Nat} {ty : FieldType} {x : vp_A} {f : Nat → Option Nat} {i : Int32} (hdg : decode M.2.1 pc = .ok (.aastore, 1)) (ht : am_tyl[τ]? = some (.array ty)) (ht' : am_tyl[t]? = some ty) (hover : Cond.arrayOver (.array ty) ∈ lw_tbl) (hra : ∀ s : State, va_RA s (am_c G τ) (.array ty) → s.vm.findClass ("[" ++ (FieldType.array ty).toString) = some (am_c G τ)) (hrb : ∀ s : State, va_RA s (am_c G t) ty → s.vm.findClass (FieldType.array ty).toString = some (am_c G t)) (he : σ.1 a = some (.inl (τ, n, .inr (.inr (.inr (.inr f)))))) (hv : σ.1 v = some (.inl (t, x))) (hin : vp_in i n)
    (kk : am_Wp G M (pc + 1) d L rest (am_up σ a (.inl (τ, n, .inr (.inr (.inr (.inr (va_up f i.toNatClampNeg (some v)))))))) Q) : am_Wp G M pc d L (.ref v :: .int i :: .ref a :: rest) σ Q := by
  intro p e R s m args below meth c H locs cells slots ls C hw hA hl
  have C0 := C
  obtain ⟨hx, hb, hr, hml, hown, hlocks, hname, htab, hfr, hroom, ⟨hoK, haK, hwK⟩, hsK, hhK⟩ := C
  have hlt : i.toNatClampNeg < n := Nat.not_le.mp fun q => hin (Or.inr q)
  have h0 : ¬ i < 0 := fun q => hin (Or.inl q)
  have ha := hw.2.2.2.2.2 a _ he
  have hvv := (hw.2.2.2.2.2 v _ hv).2
  obtain ⟨comp, cA, kA, h1, h2, h3, h4, h5⟩ := am_AO1 (hwK.2 _ hover rfl)
  have e1 : cA = am_c G τ := Option.some.inj (h5.symm.trans (hra s (haK τ _ ht).2))
  have e2 : comp = am_c G t := Option.some.inj (h1.symm.trans (hrb s (haK t _ ht').2))
  subst e1; subst e2
  obtain ⟨kC, hkC, -⟩ := Vm.findClass_spec h1
  have hc0 : (vp_cell (am_c G t) x).cls = am_c G t := by obtain ⟨n, f | f | f | f | f⟩ := x <;> rfl
  have hc1 : (vp_cell (am_c G t) x).vm = .none := by obtain ⟨n, f | f | f | f | f⟩ := x <;> rfl
  refine W.aast hx hb ha.2 (fun q h => by cases h) (fun h => by cases h) h3 h4 rfl hkC ⟨h0, by show _ < (arrV _ _ _).slots.size; rw [arrV_size]; exact hlt⟩ hvv (fun q h => by rw [hc1] at h; cases h) (by rw [hc0]; exact hkC) (by rw [hc0]; exact va_asg _ _) rfl rfl hdg fun H1 e1 z oq => ?_
  have e2 := am_upq (c := vp_cell (am_c G t) x) e1
  exact kk p e R s m args below meth c H1 _ cells slots ls C0 (hw.set he ha.2 e2 (by rw [am_vsz, am_vsz]) z oq e2) (am_app hA ha.1) hl
/-- a copy of an array -/
theorem am_clone {index τ a : Nat} {ty : FieldType} {ad : String} {x : vp_A} (ht : am_tyl[τ]? = some ty) (hnm : ∀ s : State, va_RA s (am_c G τ) ty → s.vm.findClass ad = some (am_c G τ)) (he : σ.1 a = some (.inl (τ, x))) (hfit : ∀ (cA : ClassId) (i : Nat) (v : Value), (vp_cell cA x).slots[i]? = some v → fits ty v = true)
    (hlink : Cond.methodLink M.1.cls index ⟨ad, "clone", "()Ljava/lang/Object;"⟩ ∈ lw_all) (hsame : Cond.sameMethod ad "java/lang/Object" "clone" "()Ljava/lang/Object;" ∈ lw_all) (hnat : Cond.native ⟨"java/lang/Object", "clone", "()Ljava/lang/Object;"⟩ ∈ lw_all) (hinst : Cond.instanceMethod ⟨"java/lang/Object", "clone", "()Ljava/lang/Object;"⟩ ∈ lw_all)
    (hsel : Cond.selects ad ⟨ad, "clone", "()Ljava/lang/Object;"⟩ ⟨"java/lang/Object", "clone", "()Ljava/lang/Object;"⟩ ∈ lw_all) (hcl : Cond.castable ad "java/lang/Cloneable" ∈ lw_tbl) (hst : rest.length ≤ 8) (hdg : decode M.2.1 pc = .ok (.invokevirtual index, 3)) (hc : σ.2.1 + 1 ≤ am_bc G) (hs : σ.2.2 + x.1 ≤ am_bs G)
    (kk : am_Wp G M (pc + 3) (d + 1) L (.ref σ.2.1 :: rest) (am_nw σ (.inl (τ, x)) x.1) Q) : am_Wp G M pc (d + 1) L (.ref a :: rest) σ Q := by
  intro p e R s m args below meth c H locs cells slots ls C hw hA hl
  have C0 := C
  obtain ⟨hx, hb, hr, hml, hown, hlocks, hname, htab, hfr, hroom, ⟨hoK, haK, hwK⟩, hsK, hhK⟩ := C
  intro T0 hT X
  subst hT
  have hg : am_used (am_z G) T0.heap = am_used (am_z G) s.heap + ((T0.heap.toList.drop s.heap.size).map (fun c : Cell => c.slots.size)).sum := am_grow X hroom.2.2
  have hsz : s.heap.size ≤ T0.heap.size := X.same.2.1
  have hw1 : T0.heap.size = σ.2.1 := hw.1
  have hw2 : am_used (am_z G) T0.heap = σ.2.2 := hw.2.1
  have hr1 : am_bc G ≤ s.heap.size + R.cells := hroom.1
  have hr2 : am_bs G ≤ am_used (am_z G) s.heap + R.slots := hroom.2.1
  have X1 := am_tight X
  generalize hbc : am_bc G = bc at hc hr1
  generalize hbs : am_bs G = bs at hs hr2
  have hcells : T0.heap.size - s.heap.size + 1 ≤ R.cells := by omega
  have hslots : ((T0.heap.toList.drop s.heap.size).map (fun c : Cell => c.slots.size)).sum + (vp_cell (am_c G τ) x).slots.size ≤ R.slots := by rw [am_vsz]; omega
  have hcell := (hw.2.2.2.2.2 a _ he).2
  have hvm0 : (vp_cell (am_c G τ) x).vm = .none := by obtain ⟨n, f | f | f | f | f⟩ := x <;> rfl
  have hcl0 : (vp_cell (am_c G τ) x).cls = am_c G τ := by obtain ⟨n, f | f | f | f | f⟩ := x <;> rfl
  have hcellE : ({ cls := (vp_cell (am_c G τ) x).cls, slots := (vp_cell (am_c G τ) x).slots } : Cell) = vp_cell (am_c G τ) x := by obtain ⟨n, f | f | f | f | f⟩ := x <;> rfl
  have hnmS := hnm s (haK τ _ ht).2
  obtain ⟨c0, t0', f1, f2, f3⟩ := Cond.castable_spec (va_Nw.use (A := args) rfl (hwK.2 _ hcl rfl))
  cases hnmS.symm.trans f1
  obtain ⟨-, kA, hkA, comp, hkind⟩ := State.isArrayOf_alike X.warmed.alike ((haK τ _ ht).1 0 (fun _ => .null))
  obtain ⟨-, kS, hkS, compS, hkindS⟩ := (haK τ _ ht).1 0 (fun _ => .null)
  have hmon := am_mon m pc ls [] rest hst
  obtain ⟨vm', X', st⟩ := X1.cloneArray hx hown (hwK.1 _ hlink args) (hwK.1 _ hsame args) (hwK.1 _ hnat args) (hwK.1 _ hinst args) (hwK.1 _ hsel args) (a := a) (cell := vp_cell (am_c G τ) x) hcell (fun k h => by rw [hvm0] at h; cases h) (by rw [hvm0]; exact fun h => by cases h) (by rw [hcl0]; exact hnmS) f2 (by rw [hcl0]; exact f3)
    (fun i v hv => by
      rw [hcl0]
      have hk' : T0.vm.classes[am_c G τ]? = some kA := hkA
      simpa [State.fitsSlot, State.slotType?, hk', hkind] using hfit _ i v hv)
    (g := F0 m pc ls (.ref a :: rest)) rfl (hl.1.trans hml.symm) rfl (by rw [hb]; exact hdg) (by have := hfr.1; omega) (by have := hfr.2; have h9 : 2 * (F0 m pc ls (.ref a :: rest)).monitorRoom + (rest.map fun v => v.category).sum ≤ 16 := hmon; omega) hcells hslots (hloader := by rw [hcl0]; exact Vm.clonesLoader_of_array hkS hkindS)
  rw [hcellE, am_vsz] at X'
  have e2 : (T0.heap.push (vp_cell (am_c G τ) x))[T0.heap.size]? = some (vp_cell (am_c G τ) x) := Array.getElem?_push_size
  have hnew := hw.new (H1 := T0.heap.push (vp_cell (am_c G τ) x)) (by simp) e2 (fun q hq => by rw [Array.getElem?_push, if_neg (Nat.ne_of_lt hq)]) (by rw [hbc]; exact hc) (by rw [am_vsz, hbs]; exact hs) (e := .inl (τ, x)) e2
  rw [am_vsz] at hnew
  obtain ⟨t, b1, b2⟩ := kk p e R s m args below meth c _ _ _ _ ls C0 hnew hA hl ((T0.setVm vm').pushCell (vp_cell (am_c G τ) x)) rfl X'
  refine ⟨t, st t ?_, b2⟩
  rw [hcellE, hw1]
  exact b1
end
