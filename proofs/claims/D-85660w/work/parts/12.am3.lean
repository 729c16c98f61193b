set_option maxRecDepth 100000
/-! ===== am_: the heap: fields, arrays, new ===== -/
/-- a class: its place, its fields' table, their types -/
def am_inf (ci : Nat) (C : String) (T : u_T) (N : Nat) (ty : Nat → FieldType) : Prop := am_cl[ci]? = some (C, T, N) ∧ (∀ w ∈ u_ws C T N, w ∈ lw_all) ∧ (∀ k, k < N → parseFieldDescriptor (T k).2.2.1 = some (ty k)) ∧ ∀ a, a < N → ∀ b, b < N → a ≠ b → (T a).2.1 ≠ (T b).2.1 ∨ ((T a).1 ≠ (T b).1 ∧ (T a).2.2.2 = true ∧ (T b).2.2.2 = true)
def am_up (σ : am_S) (a : Nat) (e : am_E) : am_S := (fun q => if q = a then some e else σ.1 q, σ.2)
def am_nw (σ : am_S) (e : am_E) (n : Nat) : am_S := (fun q => if q = σ.2.1 then some e else σ.1 q, σ.2.1 + 1, σ.2.2 + n)
theorem am_hw.set {G : am_G} {σ : am_S} {H H1 : Heap} {a : Nat} {e0 e : am_E} {c c' : Cell} (hw : am_hw G σ H) (he : σ.1 a = some e0) (hc : H[a]? = some c) (hc' : H1[a]? = some c') (hz : c'.slots.size = c.slots.size) (hs : H1.size = H.size) (ho : ∀ q : Nat, q ≠ a → H1[q]? = H[q]?) (h1 : am_at G a e H1) : am_hw G (am_up σ a e) H1 := by
  obtain ⟨w1, w2, w3, w4, w5, w6⟩ := hw
  refine ⟨hs.trans w1, (am_used_one hc hc' hz hs ho).trans w2, w3, w4, w5, fun q x hq => ?_⟩
  unfold am_up at hq
  by_cases h : q = a
  · subst h
    simp only [if_true] at hq
    cases hq
    exact ⟨(w6 _ _ he).1, h1⟩
  · simp only [if_neg h] at hq
    exact ⟨(w6 _ _ hq).1, (w6 _ _ hq).2.kept (ho q h)⟩
theorem am_hw.new {G : am_G} {σ : am_S} {H H1 : Heap} {e : am_E} {c : Cell} (hw : am_hw G σ H) (hs : H1.size = H.size + 1) (hc : H1[H.size]? = some c) (ho : ∀ q : Nat, q < H.size → H1[q]? = H[q]?) (hb : σ.2.1 + 1 ≤ am_bc G) (hbs : σ.2.2 + c.slots.size ≤ am_bs G) (h1 : am_at G H.size e H1) : am_hw G (am_nw σ e c.slots.size) H1 := by
  obtain ⟨w1, w2, w3, w4, w5, w6⟩ := hw
  have hu : am_used (am_z G) H1 = am_used (am_z G) H + c.slots.size := by
    rw [am_used_app (H := H) (by omega) (by omega) (fun q hq => by rw [ho q hq])]
    congr 1
    have hlen : H1.toList.length = H.size + 1 := by simp [hs]
    have hd : H1.toList.drop H.size = [c] := by
      apply List.ext_getElem?
      intro i
      rw [List.getElem?_drop, Array.getElem?_toList]
      cases i with
      | zero => simpa using hc
      | succ i =>
        rw [Array.getElem?_eq_none (by omega)]
        simp
    rw [hd]
    simp
  refine ⟨by rw [hs, w1]; rfl, by rw [hu, w2]; rfl, hb, hbs, Nat.le_succ_of_le w5, fun q x hq => ?_⟩
  unfold am_nw at hq
  by_cases h : q = σ.2.1
  · simp only [if_pos h] at hq
    cases hq
    rw [h, ← w1]
    exact ⟨by show am_z G ≤ _; omega, h1⟩
  · simp only [if_neg h] at hq
    have h2 := w6 _ _ hq
    have hlt := h2.2.lt
    exact ⟨h2.1, h2.2.kept (ho q hlt)⟩
theorem am_app {α : Type} {P : α → Prop} {l : List α} {x : α} (h : ∀ z ∈ l, P z) (hx : P x) : ∀ z ∈ l ++ [x], P z := by
  intro z hz
  rcases List.mem_append.mp hz with h1 | h1
  · exact h z h1
  · rw [List.mem_singleton.mp h1]; exact hx
section
variable {G : am_G} {M : am_M} {pc d : Nat} {L : List (Nat × Value)} {rest : List Value} {σ : am_S} {Q : am_R → am_S → Prop}
/-- what the heap is known to be: addresses in use lie below the next one -/
theorem am_wf {st : List Value} (k : (∀ (a : Nat) (e : am_E), σ.1 a = some e → am_z G ≤ a ∧ a < σ.2.1) → σ.2.1 ≤ am_bc G → σ.2.2 ≤ am_bs G → am_Wp G M pc d L st σ Q) : am_Wp G M pc d L st σ Q := fun p e R s m args below meth c H locs cells slots ls C hw hA hl =>
  k (fun a e he => ⟨(hw.2.2.2.2.2 a e he).1, by rw [← hw.1]; exact (hw.2.2.2.2.2 a e he).2.lt⟩) hw.2.2.1 hw.2.2.2.1 p e R s m args below meth c H locs cells slots ls C hw hA hl
theorem am_getfield {ci : Nat} {Cn : String} {T : u_T} {N : Nat} {ty : Nat → FieldType} {index a : Nat} {ref : String} {f : Nat → Value} (hI : am_inf ci Cn T N ty) (k : Nat) (hk : k < N) (hlink : Cond.fieldLink M.1.cls index ref (T k).2.1 (T k).2.2.1 ∈ lw_all) (hsame : ref = (T k).1 ∨ Cond.sameField ref (T k).1 (T k).2.1 (T k).2.2.1 ∈ lw_all) (hdg : decode M.2.1 pc = .ok (.getfield index, 3)) (he : σ.1 a = some (.inr (ci, f)))
    (kk : am_Wp G M (pc + 3) d L (f k :: rest) σ Q) : am_Wp G M pc d L (.ref a :: rest) σ Q := by
  intro p e R s m args below meth c H locs cells slots ls C hw hA hl
  have kk := kk p e R s m args below meth c H locs cells slots ls C hw hA hl
  obtain ⟨hx, hb, hr, hml, hown, hlocks, hname, htab, hfr, hroom, ⟨hoK, haK, hwK⟩, hsK, hhK⟩ := C
  obtain ⟨hA1, r, h1, cell, q1, q2, q3, q4⟩ := hw.2.2.2.2.2 a _ he
  have hr1 : r = (Cn, T, N) := Option.some.inj (h1.symm.trans hI.1)
  subst hr1
  have hts : ∀ w ∈ lw_all, w.before args s = true := fun w h => hwK.1 w h args
  obtain ⟨hS, hfc, kC, hkC, hkind⟩ := hoK ci _ hI.1
  obtain ⟨cf, kf, fi, fd, hi, hsl⟩ := hS k hk
  have hi2 : s.fieldFound? ref (T k).2.1 (T k).2.2.1 = some (cf, kf, fi, fd) := by
    rcases hsame with e | e
    · rw [e]; exact hi
    · exact u_same (hts _ e) _ hi
  refine W.getf hx hb hown (hts _ hlink) hi2 (u_facts hfc hkC (u_lays hts hI.2.1 hk) hi).1 q1 (by rw [q3]; exact fun h => by cases h) (v := f k) ?_ rfl rfl hdg kk
  rw [hsl, q4 k hk]
theorem am_getfieldN {ci : Nat} {Cn : String} {T : u_T} {N : Nat} {ty : Nat → FieldType} {index a : Nat} {ref host : String} {f : Nat → Value} (hI : am_inf ci Cn T N ty) (k : Nat) (hk : k < N) (hlink : Cond.fieldLinkNest M.1.cls index ref (T k).2.1 (T k).2.2.1 host ∈ lw_tbl) (hsame : ref = (T k).1) (hdg : decode M.2.1 pc = .ok (.getfield index, 3)) (he : σ.1 a = some (.inr (ci, f)))
    (kk : am_Wp G M (pc + 3) d L (f k :: rest) σ Q) : am_Wp G M pc d L (.ref a :: rest) σ Q := by
  intro p e R s m args below meth c H locs cells slots ls C hw hA hl
  have kk := kk p e R s m args below meth c H locs cells slots ls C hw hA hl
  obtain ⟨hx, hb, hr, hml, hown, hlocks, hname, htab, hfr, hroom, ⟨hoK, haK, hwK⟩, hsK, hhK⟩ := C
  obtain ⟨hA1, r, h1, cell, q1, q2, q3, q4⟩ := hw.2.2.2.2.2 a _ he
  have hr1 : r = (Cn, T, N) := Option.some.inj (h1.symm.trans hI.1)
  subst hr1
  have hts : ∀ w ∈ lw_all, w.before args s = true := fun w h => hwK.1 w h args
  obtain ⟨hS, hfc, kC, hkC, hkind⟩ := hoK ci _ hI.1
  obtain ⟨cf, kf, fi, fd, hi, hsl⟩ := hS k hk
  have hi2 : s.fieldFound? ref (T k).2.1 (T k).2.2.1 = some (cf, kf, fi, fd) := by rw [hsame]; exact hi
  refine va_Wgetf hx hb hown (va_Nw.use rfl (hwK.2 _ hlink rfl)) hi2 (u_facts hfc hkC (u_lays hts hI.2.1 hk) hi).1 q1 (by rw [q3]; exact fun h => by cases h) (v := f k) ?_ rfl rfl hdg kk
  rw [hsl, q4 k hk]
theorem am_apart {s : State} {args : Array Value} {ci : Nat} {Cn : String} {T : u_T} {N : Nat} {ty : Nat → FieldType} (hI : am_inf ci Cn T N ty) (hts : ∀ w ∈ lw_all, w.before args s = true) (hoK : am_oK G s) : ∀ x y, x < N → y < N → x ≠ y → ((am_D G).2 ci) x ≠ ((am_D G).2 ci) y := by
  intro x y hx hy hne
  obtain ⟨hS, -⟩ := hoK ci _ hI.1
  obtain ⟨_, _, _, fa, hia, ea⟩ := hS x hx
  obtain ⟨_, _, _, fb, hib, eb⟩ := hS y hy
  rw [← ea, ← eb]
  rcases hI.2.2.2 x hx y hy hne with hnm | ⟨hd, hfx, hfy⟩
  · refine u_apart (u_lays hts hI.2.1 hx) (u_lays hts hI.2.1 hy) hia hib ?_
    rw [(State.fieldFound?_type hia (hI.2.2.1 x hx)).1, (State.fieldFound?_type hib (hI.2.2.1 y hy)).1]
    exact hnm
  · have hlx := hts _ (hI.2.1 _ (u_in_lay hx))
    have hly := hts _ (hI.2.1 _ (u_in_lay hy))
    unfold u_lay at hlx hly
    rw [if_pos hfx] at hlx
    rw [if_pos hfy] at hly
    obtain ⟨c1, k1, c1', k1', i1, f1, a1, -, a3, -, -, -, a7, -, d1, b1, b2, -, -⟩ := Cond.laysFinal_spec hlx
    obtain ⟨c2, k2, c2', k2', i2, f2, e1, -, e3, -, -, -, e7, -, d2, g1, g2, -, -⟩ := Cond.laysFinal_spec hly
    have q1 := hia.symm.trans a3
    have q2 := hib.symm.trans e3
    simp only [Option.some.injEq, Prod.mk.injEq] at q1 q2
    obtain ⟨rfl, rfl, rfl, rfl⟩ := q1
    obtain ⟨rfl, rfl, rfl, rfl⟩ := q2
    have hc12 : c1 = c2 := Option.some.inj (a1.symm.trans e1)
    subst hc12
    intro hs
    rw [hs] at b1
    have hd12 : d1 = d2 := Option.some.inj (b1.symm.trans g1)
    subst hd12
    have hnn := b2.symm.trans g2
    obtain ⟨kx, hx1, hx2⟩ := Vm.findClass_spec a7
    obtain ⟨ky, hy1, hy2⟩ := Vm.findClass_spec e7
    have hkx := Option.some.inj (hx1.symm.trans (State.fieldFound?_class hia))
    have hky := Option.some.inj (hy1.symm.trans (State.fieldFound?_class hib))
    rw [hkx] at hx2
    rw [hky] at hy2
    exact hd (hx2.symm.trans (hnn.trans hy2))
theorem am_putfield {ci : Nat} {Cn : String} {T : u_T} {N : Nat} {ty : Nat → FieldType} {index a : Nat} {ref : String} {f : Nat → Value} {v : Value} (hI : am_inf ci Cn T N ty) (k : Nat) (hk : k < N) (hlink : Cond.fieldLink M.1.cls index ref (T k).2.1 (T k).2.2.1 ∈ lw_all) (hsame : ref = (T k).1) (hfin : (T k).2.2.2 = false) (hn : narrow (ty k) v = v) (hfit : fits (ty k) v = true) (hdg : decode M.2.1 pc = .ok (.putfield index, 3)) (he : σ.1 a = some (.inr (ci, f)))
    (kk : am_Wp G M (pc + 3) d L rest (am_up σ a (.inr (ci, updV f k v))) Q) : am_Wp G M pc d L (v :: .ref a :: rest) σ Q := by
  intro p e R s m args below meth c H locs cells slots ls C hw hA hl
  have C0 := C
  obtain ⟨hx, hb, hr, hml, hown, hlocks, hname, htab, hfr, hroom, ⟨hoK, haK, hwK⟩, hsK, hhK⟩ := C
  obtain ⟨hA1, r, h1, cell, q1, q2, q3, q4⟩ := hw.2.2.2.2.2 a _ he
  have hr1 : r = (Cn, T, N) := Option.some.inj (h1.symm.trans hI.1)
  subst hr1
  have hts : ∀ w ∈ lw_all, w.before args s = true := fun w h => hwK.1 w h args
  have hap := am_apart (G := G) hI hts hoK
  obtain ⟨hS, hfc, kC, hkC, hkind⟩ := hoK ci _ hI.1
  obtain ⟨cf, kf, fi, fd, hi, hsl⟩ := hS k hk
  have hlay := hts _ (hI.2.1 _ (u_in_lay hk))
  unfold u_lay at hlay
  rw [if_neg (by rw [hfin]; decide)] at hlay
  have hst := (u_facts hfc hkC (u_lays hts hI.2.1 hk) hi).1
  have h6 := u_store hfc hkC hkind hlay hi (hI.2.2.1 k hk) hn hfit
  refine W.putK hx hb (f := fd) ⟨hown, hts _ hlink, ⟨_, _, _, by rw [hsame]; exact hi⟩, hst⟩ (by rw [q2]; exact h6) q1 q3 (by rw [hsl]; exact k2_hasslot (q4 k hk)) rfl rfl hdg fun H' e1 e2 e3 => ?_
  rw [hsl] at e1 ⊢
  exact kk p e R s m args below meth c H' _ cells slots ls C0 (hw.set he q1 e1 (by simp [Cell.setSlot]) e2 e3 ⟨_, hI.1, cell.setSlot _ _, e1, q2, q3, t_set q4 hap hk v⟩) (am_app hA hA1) hl
theorem am_putfieldN {ci : Nat} {Cn : String} {T : u_T} {N : Nat} {ty : Nat → FieldType} {index a : Nat} {ref host : String} {f : Nat → Value} {v : Value} (hI : am_inf ci Cn T N ty) (k : Nat) (hk : k < N) (hlink : Cond.fieldLinkNest M.1.cls index ref (T k).2.1 (T k).2.2.1 host ∈ lw_tbl) (hsame : ref = (T k).1) (hfin : (T k).2.2.2 = false) (hn : narrow (ty k) v = v) (hfit : fits (ty k) v = true) (hdg : decode M.2.1 pc = .ok (.putfield index, 3)) (he : σ.1 a = some (.inr (ci, f)))
    (kk : am_Wp G M (pc + 3) d L rest (am_up σ a (.inr (ci, updV f k v))) Q) : am_Wp G M pc d L (v :: .ref a :: rest) σ Q := by
  intro p e R s m args below meth c H locs cells slots ls C hw hA hl
  have C0 := C
  obtain ⟨hx, hb, hr, hml, hown, hlocks, hname, htab, hfr, hroom, ⟨hoK, haK, hwK⟩, hsK, hhK⟩ := C
  obtain ⟨hA1, r, h1, cell, q1, q2, q3, q4⟩ := hw.2.2.2.2.2 a _ he
  have hr1 : r = (Cn, T, N) := Option.some.inj (h1.symm.trans hI.1)
  subst hr1
  have hts : ∀ w ∈ lw_all, w.before args s = true := fun w h => hwK.1 w h args
  have hap := am_apart (G := G) hI hts hoK
  obtain ⟨hS, hfc, kC, hkC, hkind⟩ := hoK ci _ hI.1
  obtain ⟨cf, kf, fi, fd, hi, hsl⟩ := hS k hk
  have hlay := hts _ (hI.2.1 _ (u_in_lay hk))
  unfold u_lay at hlay
  rw [if_neg (by rw [hfin]; decide)] at hlay
  have hst := (u_facts hfc hkC (u_lays hts hI.2.1 hk) hi).1
  have h6 := u_store hfc hkC hkind hlay hi (hI.2.2.1 k hk) hn hfit
  refine va_WputK hx hb (f := fd) hown (va_Nw.use rfl (hwK.2 _ hlink rfl)) (by rw [hsame]; exact hi) hst (by rw [q2]; exact h6) q1 q3 (by rw [hsl]; exact k2_hasslot (q4 k hk)) rfl rfl hdg fun H' e1 e2 e3 => ?_
  rw [hsl] at e1 ⊢
  exact kk p e R s m args below meth c H' _ cells slots ls C0 (hw.set he q1 e1 (by simp [Cell.setSlot]) e2 e3 ⟨_, hI.1, cell.setSlot _ _, e1, q2, q3, t_set q4 hap hk v⟩) (am_app hA hA1) hl
theorem am_putfieldF {ci : Nat} {Cn : String} {T : u_T} {N : Nat} {ty : Nat → FieldType} {index a : Nat} {ref : String} {f : Nat → Value} {v : Value} (hI : am_inf ci Cn T N ty) (k : Nat) (hk : k < N) (hlink : Cond.fieldLink M.1.cls index ref (T k).2.1 (T k).2.2.1 ∈ lw_all) (hsame : ref = (T k).1) (hfin : (T k).2.2.2 = true) (hin : M.1.name = "<init>") (hdecl : (T k).1 = M.1.cls) (hn : narrow (ty k) v = v) (hfit : fits (ty k) v = true) (hdg : decode M.2.1 pc = .ok (.putfield index, 3)) (he : σ.1 a = some (.inr (ci, f)))
    (kk : am_Wp G M (pc + 3) d L rest (am_up σ a (.inr (ci, updV f k v))) Q) : am_Wp G M pc d L (v :: .ref a :: rest) σ Q := by
  intro p e R s m args below meth c H locs cells slots ls C hw hA hl
  have C0 := C
  obtain ⟨hx, hb, hr, hml, hown, hlocks, hname, htab, hfr, hroom, ⟨hoK, haK, hwK⟩, hsK, hhK⟩ := C
  obtain ⟨hA1, r, h1, cell, q1, q2, q3, q4⟩ := hw.2.2.2.2.2 a _ he
  have hr1 : r = (Cn, T, N) := Option.some.inj (h1.symm.trans hI.1)
  subst hr1
  have hts : ∀ w ∈ lw_all, w.before args s = true := fun w h => hwK.1 w h args
  have hap := am_apart (G := G) hI hts hoK
  obtain ⟨hS, hfc, kC, hkC, hkind⟩ := hoK ci _ hI.1
  obtain ⟨cf, kf, fi, fd, hi, hsl⟩ := hS k hk
  have hlay := hts _ (hI.2.1 _ (u_in_lay hk))
  unfold u_lay at hlay
  rw [if_pos hfin] at hlay
  have hst := (u_facts hfc hkC (u_lays hts hI.2.1 hk) hi).1
  have hcf : m.cls = cf := by
    obtain ⟨_, _, c', _, _, _, -, -, hf', -, -, -, hown2, -⟩ := Cond.laysFinal_spec hlay
    have e1 : c' = cf := by have := hi.symm.trans hf'; simp at this; exact this.1.symm
    rw [hdecl] at hown2
    rw [← e1]; exact Option.some.inj (hown.symm.trans hown2)
  have h6 := u_fits hfc hkC hkind (Or.inr hlay) hi (hI.2.2.1 k hk) hn hfit
  refine W.putFinK hx hb hown (hts _ hlink) (by rw [hsame]; exact hi) hst hcf (hname.trans hin) (by rw [q2]; exact h6) q1 q3 (by rw [hsl]; exact k2_hasslot (q4 k hk)) rfl rfl hdg fun H' e1 e2 e3 => ?_
  rw [hsl] at e1 ⊢
  exact kk p e R s m args below meth c H' _ cells slots ls C0 (hw.set he q1 e1 (by simp [Cell.setSlot]) e2 e3 ⟨_, hI.1, cell.setSlot _ _, e1, q2, q3, t_set q4 hap hk v⟩) (am_app hA hA1) hl
theorem am_new {ci : Nat} {Cn : String} {T : u_T} {N : Nat} {ty : Nat → FieldType} {index : Nat} (hI : am_inf ci Cn T N ty) (hcl : Cond.classLink M.1.cls index Cn ∈ lw_all) (hinst : Cond.instantiable Cn N ∈ lw_all) (hini : Cond.initialized Cn ∈ lw_all) (hdg : decode M.2.1 pc = .ok (.new index, 3)) (hc : σ.2.1 + 1 ≤ am_bc G) (hs : σ.2.2 + N ≤ am_bs G)
    (kk : am_Wp G M (pc + 3) d L (.ref σ.2.1 :: rest) (am_nw σ (.inr (ci, fun j => defaultValue (ty j))) N) Q) : am_Wp G M pc d L rest σ Q := by
  intro p e R s m args below meth c H locs cells slots ls C hw hA hl
  have C0 := C
  obtain ⟨hx, hb, hr, hml, hown, hlocks, hname, htab, hfr, hroom, ⟨hoK, haK, hwK⟩, hsK, hhK⟩ := C
  have hts : ∀ w ∈ lw_all, w.before args s = true := fun w h => hwK.1 w h args
  have hKn := hoK ci _ hI.1
  intro T0 hT X
  subst hT
  have hg : am_used (am_z G) T0.heap = am_used (am_z G) s.heap + ((T0.heap.toList.drop s.heap.size).map (fun c : Cell => c.slots.size)).sum := am_grow X hroom.2.2
  have hsz : s.heap.size ≤ T0.heap.size := X.same.2.1
  have hw1 : T0.heap.size = σ.2.1 := hw.1
  have hw2 : am_used (am_z G) T0.heap = σ.2.2 := hw.2.1
  have hr1 : am_bc G ≤ s.heap.size + R.cells := hroom.1
  have hr2 : am_bs G ≤ am_used (am_z G) s.heap + R.slots := hroom.2.1
  have X1 := am_tight X
  generalize hbc : am_bc G = bc at hc hr1
  generalize hbs : am_bs G = bs at hs hr2
  have hcells : T0.heap.size - s.heap.size + 1 ≤ R.cells := by omega
  have hslots : ((T0.heap.toList.drop s.heap.size).map (fun c : Cell => c.slots.size)).sum + N ≤ R.slots := by omega
  refine W.newc (g := F0 m pc ls rest) (Q := am_end G Q below args s R) hx hb hown (hts _ hcl) (hts _ hinst) (hts _ hini) rfl hdg hcells hslots (fun cC kC f1 f2 f3 f4 => ?_) T0 rfl X1
  have hfc : cC = (am_D G).1 ci := Option.some.inj (f1.symm.trans hKn.2.1)
  subst hfc
  have e1 : (T0.heap.push ({ cls := (am_D G).1 ci, slots := kC.instanceTypes.map defaultValue, vm := .none } : Cell))[T0.heap.size]? = some (blank ((am_D G).1 ci) kC) := by rw [Array.getElem?_push_size]; rfl
  have hN : (blank ((am_D G).1 ci) kC).slots.size = N := by rw [← f4]; simp [blank]
  have hnew := hw.new (H1 := T0.heap.push ({ cls := (am_D G).1 ci, slots := kC.instanceTypes.map defaultValue, vm := .none } : Cell)) (by simp) e1 (fun q hq => by rw [Array.getElem?_push, if_neg (Nat.ne_of_lt hq)]) (by rw [hbc]; exact hc) (by rw [hN, hbs]; exact hs) (e := .inr (ci, fun j => defaultValue (ty j))) ⟨_, hI.1, u_born ty hts hI.2.1 hKn f2 e1 hI.2.2.1⟩
  rw [hN] at hnew
  rw [hw1]
  exact kk p e R s m args below meth c _ _ _ _ ls C0 hnew hA hl
end
