set_option maxRecDepth 100000
/-! ===== am_: arrays ===== -/
section
variable {G : am_G} {M : am_M} {pc d : Nat} {L : List (Nat × Value)} {rest : List Value} {σ : am_S} {Q : am_R → am_S → Prop}
theorem am_vsz (cA : ClassId) (x : vp_A) : (vp_cell cA x).slots.size = x.1 := by
  obtain ⟨n, f | f | f | f | f⟩ := x <;> simp [vp_cell, arrV]
theorem am_alen {τ a : Nat} {ty : FieldType} {x : vp_A} (hdg : decode M.2.1 pc = .ok (.arraylength, 1)) (he : σ.1 a = some (.inl (τ, x))) (ht : am_tyl[τ]? = some ty) (kk : am_Wp G M (pc + 1) d L (.int (nI x.1) :: rest) σ Q) : am_Wp G M pc d L (.ref a :: rest) σ Q := by
  intro p e R s m args below meth c H locs cells slots ls C hw hA hl
  have kk := kk p e R s m args below meth c H locs cells slots ls C hw hA hl
  have h := (hw.2.2.2.2.2 a _ he).2
  have hK := (C.2.2.2.2.2.2.2.2.2.2.1.2.1 τ ty ht).1
  obtain ⟨n, f | f | f | f | f⟩ := x
  · exact W.alen (n := nI n) C.1 C.2.1 h (hK n (fun j => .int (f j))) (by rw [vp_cell_i, arrV_size] <;> rfl) rfl rfl hdg kk
  · exact W.alen (n := nI n) C.1 C.2.1 h (hK n (fun j => .long (f j))) (by rw [vp_cell_l, arrV_size] <;> rfl) rfl rfl hdg kk
  · exact W.alen (n := nI n) C.1 C.2.1 h (hK n (fun j => .float (f j))) (by rw [vp_cell_f, arrV_size] <;> rfl) rfl rfl hdg kk
  · exact W.alen (n := nI n) C.1 C.2.1 h (hK n (fun j => .double (f j))) (by rw [vp_cell_d, arrV_size] <;> rfl) rfl rfl hdg kk
  · exact W.alen (n := nI n) C.1 C.2.1 h (hK n (fun j => va_rf (f j))) (by rw [vp_cell_q, arrV_size] <;> rfl) rfl rfl hdg kk
theorem am_iald {a n : Nat} {f : Nat → Int32} {i : Int32} (hdg : decode M.2.1 pc = .ok (.iaload, 1)) (he : σ.1 a = some (.inl (0, n, .inl f))) (hin : vp_in i n) (kk : am_Wp G M (pc + 1) d L (.int (f i.toNatClampNeg) :: rest) σ Q) : am_Wp G M pc d L (.int i :: .ref a :: rest) σ Q := by
  intro p e R s m args below meth c H locs cells slots ls C hw hA hl
  have kk := kk p e R s m args below meth c H locs cells slots ls C hw hA hl
  have hlt : i.toNatClampNeg < n := Nat.not_le.mp fun q => hin (Or.inr q)
  exact W.iald (v := .int (f i.toNatClampNeg)) C.1 C.2.1 (hw.2.2.2.2.2 a _ he).2 ((C.2.2.2.2.2.2.2.2.2.2.1.2.1 0 _ rfl).1 n (fun j => .int (f j))) (fun q => by cases q) (by show ¬ (i < 0 ∨ (arrV _ _ _).slots.size ≤ _); rw [arrV_size]; exact hin) (by show (arrV _ _ _).slots[_]? = _; rw [arrV_read _ _ hlt]) rfl rfl hdg kk
theorem am_bald {a n : Nat} {f : Nat → Int32} {i : Int32} (hdg : decode M.2.1 pc = .ok (.baload, 1)) (he : σ.1 a = some (.inl (1, n, .inl f))) (hin : vp_in i n) (kk : am_Wp G M (pc + 1) d L (.int (f i.toNatClampNeg) :: rest) σ Q) : am_Wp G M pc d L (.int i :: .ref a :: rest) σ Q := by
  intro p e R s m args below meth c H locs cells slots ls C hw hA hl
  have kk := kk p e R s m args below meth c H locs cells slots ls C hw hA hl
  have hlt : i.toNatClampNeg < n := Nat.not_le.mp fun q => hin (Or.inr q)
  exact W.bald (v := .int (f i.toNatClampNeg)) C.1 C.2.1 (hw.2.2.2.2.2 a _ he).2 ((C.2.2.2.2.2.2.2.2.2.2.1.2.1 1 _ rfl).1 n (fun j => .int (f j))) (fun q => by cases q) (by show ¬ (i < 0 ∨ (arrV _ _ _).slots.size ≤ _); rw [arrV_size]; exact hin) (by show (arrV _ _ _).slots[_]? = _; rw [arrV_read _ _ hlt]) rfl rfl hdg kk
theorem am_zald {a n : Nat} {f : Nat → Int32} {i : Int32} (hdg : decode M.2.1 pc = .ok (.baload, 1)) (he : σ.1 a = some (.inl (3, n, .inl f))) (hin : vp_in i n) (kk : am_Wp G M (pc + 1) d L (.int (f i.toNatClampNeg) :: rest) σ Q) : am_Wp G M pc d L (.int i :: .ref a :: rest) σ Q := by
  intro p e R s m args below meth c H locs cells slots ls C hw hA hl
  have kk := kk p e R s m args below meth c H locs cells slots ls C hw hA hl
  have hlt : i.toNatClampNeg < n := Nat.not_le.mp fun q => hin (Or.inr q)
  exact W.zald (v := .int (f i.toNatClampNeg)) C.1 C.2.1 (hw.2.2.2.2.2 a _ he).2 ((C.2.2.2.2.2.2.2.2.2.2.1.2.1 3 _ rfl).1 n (fun j => .int (f j))) (fun q => by cases q) (by show ¬ (i < 0 ∨ (arrV _ _ _).slots.size ≤ _); rw [arrV_size]; exact hin) (by show (arrV _ _ _).slots[_]? = _; rw [arrV_read _ _ hlt]) rfl rfl hdg kk
theorem am_cald {a n : Nat} {f : Nat → Int32} {i : Int32} (hdg : decode M.2.1 pc = .ok (.caload, 1)) (he : σ.1 a = some (.inl (2, n, .inl f))) (hin : vp_in i n) (kk : am_Wp G M (pc + 1) d L (.int (f i.toNatClampNeg) :: rest) σ Q) : am_Wp G M pc d L (.int i :: .ref a :: rest) σ Q := by
  intro p e R s m args below meth c H locs cells slots ls C hw hA hl
  have kk := kk p e R s m args below meth c H locs cells slots ls C hw hA hl
  have hlt : i.toNatClampNeg < n := Nat.not_le.mp fun q => hin (Or.inr q)
  exact W.cald (v := .int (f i.toNatClampNeg)) C.1 C.2.1 (hw.2.2.2.2.2 a _ he).2 ((C.2.2.2.2.2.2.2.2.2.2.1.2.1 2 _ rfl).1 n (fun j => .int (f j))) (fun q => by cases q) (by show ¬ (i < 0 ∨ (arrV _ _ _).slots.size ≤ _); rw [arrV_size]; exact hin) (by show (arrV _ _ _).slots[_]? = _; rw [arrV_read _ _ hlt]) rfl rfl hdg kk
theorem am_lald {a n : Nat} {f : Nat → Int64} {i : Int32} (hdg : decode M.2.1 pc = .ok (.laload, 1)) (he : σ.1 a = some (.inl (4, n, .inr (.inl f)))) (hin : vp_in i n) (kk : am_Wp G M (pc + 1) d L (.long (f i.toNatClampNeg) :: rest) σ Q) : am_Wp G M pc d L (.int i :: .ref a :: rest) σ Q := by
  intro p e R s m args below meth c H locs cells slots ls C hw hA hl
  have kk := kk p e R s m args below meth c H locs cells slots ls C hw hA hl
  have hlt : i.toNatClampNeg < n := Nat.not_le.mp fun q => hin (Or.inr q)
  exact W.lald (v := .long (f i.toNatClampNeg)) C.1 C.2.1 (hw.2.2.2.2.2 a _ he).2 ((C.2.2.2.2.2.2.2.2.2.2.1.2.1 4 _ rfl).1 n (fun j => .long (f j))) (fun q => by cases q) (by show ¬ (i < 0 ∨ (arrV _ _ _).slots.size ≤ _); rw [arrV_size]; exact hin) (by show (arrV _ _ _).slots[_]? = _; rw [arrV_read _ _ hlt]) rfl rfl hdg kk
theorem am_aald {τ a n : Nat} {ty : FieldType} {f : Nat → Option Nat} {i : Int32} (hdg : decode M.2.1 pc = .ok (.aaload, 1)) (he : σ.1 a = some (.inl (τ, n, .inr (.inr (.inr (.inr f)))))) (ht : am_tyl[τ]? = some ty) (hty : ty.isReference = true) (hin : vp_in i n) (kk : am_Wp G M (pc + 1) d L (va_rf (f i.toNatClampNeg) :: rest) σ Q) : am_Wp G M pc d L (.int i :: .ref a :: rest) σ Q := by
  intro p e R s m args below meth c H locs cells slots ls C hw hA hl
  have kk := kk p e R s m args below meth c H locs cells slots ls C hw hA hl
  have hlt : i.toNatClampNeg < n := Nat.not_le.mp fun q => hin (Or.inr q)
  exact W.aald (v := va_rf (f i.toNatClampNeg)) (ty := ty) C.1 C.2.1 (hw.2.2.2.2.2 a _ he).2 ((C.2.2.2.2.2.2.2.2.2.2.1.2.1 τ _ ht).1 n (fun j => va_rf (f j))) hty (fun q => by cases q) (by show ¬ (i < 0 ∨ (arrV _ _ _).slots.size ≤ _); rw [arrV_size]; exact hin) (by show (arrV _ _ _).slots[_]? = _; rw [arrV_read _ _ hlt]) rfl rfl hdg kk
theorem am_iast {a n : Nat} {f : Nat → Int32} {i x : Int32} (hdg : decode M.2.1 pc = .ok (.iastore, 1)) (he : σ.1 a = some (.inl (0, n, .inl f))) (hin : vp_in i n) (kk : am_Wp G M (pc + 1) d L rest (am_up σ a (.inl (0, n, .inl (upd f i.toNatClampNeg x)))) Q) : am_Wp G M pc d L (.int x :: .int i :: .ref a :: rest) σ Q := by
  intro p e R s m args below meth c H locs cells slots ls C hw hA hl
  refine W.iast C.1 C.2.1 (hw.2.2.2.2.2 a _ he).2 ((C.2.2.2.2.2.2.2.2.2.2.1.2.1 0 _ rfl).1 n (fun j => .int (f j))) (fun q => by cases q) (by show ¬ (i < 0 ∨ (arrV _ _ _).slots.size ≤ _); rw [arrV_size]; exact hin) rfl rfl hdg fun H1 e1 z oq => ?_
  have e2 : H1[a]? = some (vp_cell (am_c G 0) (n, .inl (upd f i.toNatClampNeg x))) := by
    rw [e1]
    rw [vp_cell_i, vp_cell_i, arrV_store]
    congr 2
    funext q
    by_cases hq : q = i.toNatClampNeg
    · subst hq
      simp [updV, upd]
    · simp [updV, upd, hq]
  exact kk p e R s m args below meth c H1 _ cells slots ls C (hw.set he (hw.2.2.2.2.2 a _ he).2 e2 (by rw [am_vsz, am_vsz]) z oq e2) (am_app hA (hw.2.2.2.2.2 a _ he).1) hl
theorem am_bast {a n : Nat} {f : Nat → Int32} {i x : Int32} (hdg : decode M.2.1 pc = .ok (.bastore, 1)) (he : σ.1 a = some (.inl (1, n, .inl f))) (hin : vp_in i n) (kk : am_Wp G M (pc + 1) d L rest (am_up σ a (.inl (1, n, .inl (upd f i.toNatClampNeg (vp_nar .byte x))))) Q) : am_Wp G M pc d L (.int x :: .int i :: .ref a :: rest) σ Q := by
  intro p e R s m args below meth c H locs cells slots ls C hw hA hl
  refine W.bast C.1 C.2.1 (hw.2.2.2.2.2 a _ he).2 ((C.2.2.2.2.2.2.2.2.2.2.1.2.1 1 _ rfl).1 n (fun j => .int (f j))) (fun q => by cases q) (by show ¬ (i < 0 ∨ (arrV _ _ _).slots.size ≤ _); rw [arrV_size]; exact hin) rfl rfl hdg fun H1 e1 z oq => ?_
  have e2 : H1[a]? = some (vp_cell (am_c G 1) (n, .inl (upd f i.toNatClampNeg (vp_nar .byte x)))) := by
    rw [e1]
    rw [vp_cell_i, vp_cell_i, arrV_store]
    congr 2
    funext q
    by_cases hq : q = i.toNatClampNeg
    · subst hq
      simp [updV, upd, vp_nar]
      try rfl
    · simp [updV, upd, hq]
  exact kk p e R s m args below meth c H1 _ cells slots ls C (hw.set he (hw.2.2.2.2.2 a _ he).2 e2 (by rw [am_vsz, am_vsz]) z oq e2) (am_app hA (hw.2.2.2.2.2 a _ he).1) hl
theorem am_zast {a n : Nat} {f : Nat → Int32} {i x : Int32} (hdg : decode M.2.1 pc = .ok (.bastore, 1)) (he : σ.1 a = some (.inl (3, n, .inl f))) (hin : vp_in i n) (kk : am_Wp G M (pc + 1) d L rest (am_up σ a (.inl (3, n, .inl (upd f i.toNatClampNeg (vp_nar .boolean x))))) Q) : am_Wp G M pc d L (.int x :: .int i :: .ref a :: rest) σ Q := by
  intro p e R s m args below meth c H locs cells slots ls C hw hA hl
  refine W.zast C.1 C.2.1 (hw.2.2.2.2.2 a _ he).2 ((C.2.2.2.2.2.2.2.2.2.2.1.2.1 3 _ rfl).1 n (fun j => .int (f j))) (fun q => by cases q) (by show ¬ (i < 0 ∨ (arrV _ _ _).slots.size ≤ _); rw [arrV_size]; exact hin) rfl rfl hdg fun H1 e1 z oq => ?_
  have e2 : H1[a]? = some (vp_cell (am_c G 3) (n, .inl (upd f i.toNatClampNeg (vp_nar .boolean x)))) := by
    rw [e1]
    rw [vp_cell_i, vp_cell_i, arrV_store]
    congr 2
    funext q
    by_cases hq : q = i.toNatClampNeg
    · subst hq
      simp [updV, upd, vp_nar]
      try rfl
    · simp [updV, upd, hq]
  exact kk p e R s m args below meth c H1 _ cells slots ls C (hw.set he (hw.2.2.2.2.2 a _ he).2 e2 (by rw [am_vsz, am_vsz]) z oq e2) (am_app hA (hw.2.2.2.2.2 a _ he).1) hl
theorem am_cast {a n : Nat} {f : Nat → Int32} {i x : Int32} (hdg : decode M.2.1 pc = .ok (.castore, 1)) (he : σ.1 a = some (.inl (2, n, .inl f))) (hin : vp_in i n) (kk : am_Wp G M (pc + 1) d L rest (am_up σ a (.inl (2, n, .inl (upd f i.toNatClampNeg (vp_nar .char x))))) Q) : am_Wp G M pc d L (.int x :: .int i :: .ref a :: rest) σ Q := by
  intro p e R s m args below meth c H locs cells slots ls C hw hA hl
  refine W.cast C.1 C.2.1 (hw.2.2.2.2.2 a _ he).2 ((C.2.2.2.2.2.2.2.2.2.2.1.2.1 2 _ rfl).1 n (fun j => .int (f j))) (fun q => by cases q) (by show ¬ (i < 0 ∨ (arrV _ _ _).slots.size ≤ _); rw [arrV_size]; exact hin) rfl rfl hdg fun H1 e1 z oq => ?_
  have e2 : H1[a]? = some (vp_cell (am_c G 2) (n, .inl (upd f i.toNatClampNeg (vp_nar .char x)))) := by
    rw [e1]
    rw [vp_cell_i, vp_cell_i, arrV_store]
    congr 2
    funext q
    by_cases hq : q = i.toNatClampNeg
    · subst hq
      simp [updV, upd, vp_nar]
      try rfl
    · simp [updV, upd, hq]
  exact kk p e R s m args below meth c H1 _ cells slots ls C (hw.set he (hw.2.2.2.2.2 a _ he).2 e2 (by rw [am_vsz, am_vsz]) z oq e2) (am_app hA (hw.2.2.2.2.2 a _ he).1) hl
theorem am_last {a n : Nat} {f : Nat → Int64} {i : Int32} {x : Int64} (hdg : decode M.2.1 pc = .ok (.lastore, 1)) (he : σ.1 a = some (.inl (4, n, .inr (.inl f)))) (hin : vp_in i n) (kk : am_Wp G M (pc + 1) d L rest (am_up σ a (.inl (4, n, .inr (.inl (vp_updL f i.toNatClampNeg x))))) Q) : am_Wp G M pc d L (.long x :: .int i :: .ref a :: rest) σ Q := by
  intro p e R s m args below meth c H locs cells slots ls C hw hA hl
  refine W.last C.1 C.2.1 (hw.2.2.2.2.2 a _ he).2 ((C.2.2.2.2.2.2.2.2.2.2.1.2.1 4 _ rfl).1 n (fun j => .long (f j))) (fun q => by cases q) (by show ¬ (i < 0 ∨ (arrV _ _ _).slots.size ≤ _); rw [arrV_size]; exact hin) rfl rfl hdg fun H1 e1 z oq => ?_
  have e2 : H1[a]? = some (vp_cell (am_c G 4) (n, .inr (.inl (vp_updL f i.toNatClampNeg x)))) := by
    rw [e1]
    rw [vp_cell_l, vp_cell_l, arrV_store]
    congr 2
    funext q
    by_cases hq : q = i.toNatClampNeg
    · subst hq
      simp [updV, vp_updL]
    · simp [updV, vp_updL, hq]
  exact kk p e R s m args below meth c H1 _ cells slots ls C (hw.set he (hw.2.2.2.2.2 a _ he).2 e2 (by rw [am_vsz, am_vsz]) z oq e2) (am_app hA (hw.2.2.2.2.2 a _ he).1) hl
/-- a reference stored: of an object whose class may stand there -/
theorem am_aast {τ a n v ci : Nat} {Cn E : String} {T : u_T} {N : Nat} {ty : Nat → FieldType} {fv : Nat → Value} {f : Nat → Option Nat} {i : Int32} (hI : am_inf ci Cn T N ty) (hdg : decode M.2.1 pc = .ok (.aastore, 1)) (he : σ.1 a = some (.inl (τ, n, .inr (.inr (.inr (.inr f)))))) (ht : am_tyl[τ]? = some (.object E)) (hcast : Cn = E ∨ Cond.castable Cn E ∈ lw_tbl) (hv : σ.1 v = some (.inr (ci, fv))) (hin : vp_in i n)
    (kk : am_Wp G M (pc + 1) d L rest (am_up σ a (.inl (τ, n, .inr (.inr (.inr (.inr (va_up f i.toNatClampNeg (some v)))))))) Q) : am_Wp G M pc d L (.ref v :: .int i :: .ref a :: rest) σ Q := by
  intro p e R s m args below meth c H locs cells slots ls C hw hA hl
  have C0 := C
  obtain ⟨hx, hb, hr, hml, hown, hlocks, hname, htab, hfr, hroom, ⟨hoK, haK, hwK⟩, hsK, hhK⟩ := C
  have hlt : i.toNatClampNeg < n := Nat.not_le.mp fun q => hin (Or.inr q)
  have h0 : ¬ i < 0 := fun q => hin (Or.inl q)
  have ha := hw.2.2.2.2.2 a _ he
  obtain ⟨hAv, r', hr', cellV, g1, g2, g3, -⟩ := hw.2.2.2.2.2 v _ hv
  have hr1 : r' = (Cn, T, N) := Option.some.inj (hr'.symm.trans hI.1)
  subst hr1
  have hcls := (hoK ci _ hI.1).2
  obtain ⟨kA, comp, k1, k2, k3, -⟩ := (haK τ _ ht).2
  obtain ⟨kC, hkC, -⟩ := hcls.2
  have hasg : s.vm.assignable ((am_D G).1 ci) comp = true ∧ ∃ kcomp, s.vm.classes[comp]? = some kcomp := by
    rcases hcast with h | h
    · have e1 : comp = (am_D G).1 ci := Option.some.inj (k3.symm.trans (by rw [← h]; exact hcls.1))
      rw [e1]
      exact ⟨va_assign hcls, kC, hkC⟩
    · obtain ⟨c3, c4, hc3, hc4, hasg⟩ := Cond.castable_spec (args := #[]) (hwK.2 _ h rfl)
      have e1 : c3 = (am_D G).1 ci := Option.some.inj (hc3.symm.trans hcls.1)
      have e2 : c4 = comp := Option.some.inj (hc4.symm.trans k3)
      subst e1; subst e2
      obtain ⟨k9, h9, -⟩ := Vm.findClass_spec k3
      exact ⟨hasg, k9, h9⟩
  obtain ⟨hasg, kcomp, hkcomp⟩ := hasg
  refine W.aast hx hb ha.2 (fun q h => by cases h) (fun h => by cases h) k1 k2 rfl hkcomp ⟨h0, by show _ < (arrV _ _ _).slots.size; rw [arrV_size]; exact hlt⟩ g1 (fun q h => by rw [g3] at h; cases h) (by rw [g2]; exact hkC) (by rw [g2]; exact hasg) rfl rfl hdg fun H1 e1 z oq => ?_
  have e2 : H1[a]? = some (vp_cell (am_c G τ) (n, .inr (.inr (.inr (.inr (va_up f i.toNatClampNeg (some v))))))) := by
    rw [e1]
    rw [vp_cell_q, vp_cell_q, arrV_store]
    congr 2
    funext q
    by_cases hq : q = i.toNatClampNeg
    · subst hq
      simp [updV, va_up, va_rf]
    · simp [updV, va_up, hq]
  exact kk p e R s m args below meth c H1 _ cells slots ls C0 (hw.set he ha.2 e2 (by rw [am_vsz, am_vsz]) z oq e2) (am_app hA ha.1) hl
theorem am_aastN {τ a n : Nat} {E : String} {f : Nat → Option Nat} {i : Int32} (hdg : decode M.2.1 pc = .ok (.aastore, 1)) (he : σ.1 a = some (.inl (τ, n, .inr (.inr (.inr (.inr f)))))) (ht : am_tyl[τ]? = some (.object E)) (hin : vp_in i n)
    (kk : am_Wp G M (pc + 1) d L rest (am_up σ a (.inl (τ, n, .inr (.inr (.inr (.inr (va_up f i.toNatClampNeg none))))))) Q) : am_Wp G M pc d L (.null :: .int i :: .ref a :: rest) σ Q := by
  intro p e R s m args below meth c H locs cells slots ls C hw hA hl
  have C0 := C
  obtain ⟨hx, hb, hr, hml, hown, hlocks, hname, htab, hfr, hroom, ⟨hoK, haK, hwK⟩, hsK, hhK⟩ := C
  have ha := hw.2.2.2.2.2 a _ he
  refine va_WaastN (C := E) hx hb ha.2 ((haK τ _ ht).1 n (fun j => va_rf (f j))) (fun h => by cases h) (by show ¬ (i < 0 ∨ (arrV _ _ _).slots.size ≤ _); rw [arrV_size]; exact hin) rfl rfl hdg fun H1 e1 z oq => ?_
  have e2 : H1[a]? = some (vp_cell (am_c G τ) (n, .inr (.inr (.inr (.inr (va_up f i.toNatClampNeg none)))))) := by
    rw [e1]
    rw [vp_cell_q, vp_cell_q, arrV_store]
    congr 2
    funext q
    by_cases hq : q = i.toNatClampNeg
    · subst hq
      simp [updV, va_up, va_rf]
    · simp [updV, va_up, hq]
  exact kk p e R s m args below meth c H1 _ cells slots ls C0 (hw.set he ha.2 e2 (by rw [am_vsz, am_vsz]) z oq e2) (am_app hA ha.1) hl
end
