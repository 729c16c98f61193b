set_option maxRecDepth 100000
/-! ===== am_: the caller's side ===== -/
def am_Pre (G : am_G) (R : Room) (as : List Value) (σ : am_S) : Pt → Array Value → Prop := fun A a => A.cells + (am_bc G - σ.2.1) ≤ R.cells ∧ A.slots + (am_bs G - σ.2.2) ≤ R.slots ∧ am_Pc G as σ a A.U
def am_Po (G : am_G) (Q : am_R → am_S → Prop) : Pt → Array Value → Option Value → Pt → Prop := fun A _ v B => ∃ (σ : am_S) (L : List Loc), Q (.inl v) σ ∧ am_hw G σ B.U.heap ∧ B.locs = A.locs ++ L ∧ ∀ z ∈ L, am_A G z.base
def am_Px (G : am_G) (Q : am_R → am_S → Prop) : Pt → Array Value → Addr → Pt → Prop := fun A _ q B => ∃ (σ : am_S) (L : List Loc), Q (.inr q) σ ∧ am_hw G σ B.U.heap ∧ B.locs = A.locs ++ L ∧ ∀ z ∈ L, am_A G z.base
theorem am_Pc.blind {G : am_G} {as : List Value} {σ : am_S} {a : Array Value} {U : State} {g : JFrame} {mk : MethodId} (h : am_Pc G as σ a U) : am_Pc G as σ a (U.calling g mk a) := by
  obtain ⟨h1, h2, h3, h4, h5⟩ := h
  have hW : U.WarmedH (U.calling g mk a).vm := State.WarmedH.refl U
  exact ⟨h1, h2, h3.warm hW, h4.warm hW, am_hK.moved (Vm.Alike.refl U.vm) h5⟩
section
variable {G : am_G} {σ : am_S} {Q : am_R → am_S → Prop} {p : Program} {e : Env} {R : Room} {s : State} {below : List Frame} {sargs : Array Value}
/-- follows vx_back of laws/EXCEPTIONS -/
theorem am_back {Mc : am_M} {d len W9 : Nat} {w : Cond} {as : List Value} (hM : am_Mt G Mc d w as σ Q) (hframes : d + 1 ≤ R.frames) (hlocals : W9 + (Mc.2.2.1 + 11) + 64 * d ≤ R.locals)
    (hw : ∀ a' U, s.WarmedH U.vm → w.before a' U = true) (hspec : ∀ (U : State) (mk : MethodId), s.WarmedH U.vm → U.methodNamed? Mc.1 = some mk → ∃ methY cY, U.vm.method? mk = some methY ∧ methY.code = some cY ∧ cY.maxLocals = Mc.2.2.1) (hinit : ∀ a' U, s.WarmedH U.vm → (Cond.initialized Mc.1.cls).before a' U = true) :
    vx_Back (am_l G) R p e below s sargs Mc.1 len W9 (am_Pre G R as σ) (am_Po G Q) (am_Px G Q) := by
  intro m meth c A g ig mk a X hg hsize hdg hW hn hp
  have h1 : (headSpec [w] (am_rm G d σ)).pre.before a A.U = true := atoms_intro fun w' hw' => by rw [List.mem_singleton.mp hw']; exact hw _ _ X.warmed
  have h3 : (Cond.initialized Mc.1.cls).before a A.U = true := hinit _ _ X.warmed
  have h4 : A.cells + (headSpec [w] (am_rm G d σ)).room.cells ≤ R.cells := hp.1
  have h5 : A.slots + (headSpec [w] (am_rm G d σ)).room.slots ≤ R.slots := hp.2.1
  have hPc : am_Pc G as σ a (A.U.calling g mk a) := am_Pc.blind hp.2.2
  obtain ⟨U, Ls, c0, s0⟩ := A
  dsimp only [Pt.U, Pt.locs, Pt.cells, Pt.slots] at h1 h3 h4 h5 X hn hPc ⊢
  obtain ⟨methY, cY, hmY, hcY, hlY⟩ := hspec U mk X.warmed hn
  obtain ⟨kY, hkY, -⟩ := className_of_methodNamed hn
  have hinitY : kY.init = .initialized := Cond.initialized_spec (findClass_of_methodNamed hn) hkY h3
  have h : At U g.method c below := by rw [hg]; exact X.here
  have hlocals9 : W9 + (Mc.2.2.1 + 11) + (headSpec [w] (am_rm G d σ)).room.locals ≤ R.locals := hlocals
  have happ : (headSpec [w] (am_rm G d σ)).appliesLoose Mc.1 e.platform (U.calling g mk a) = true :=
    Spec.appliesLoose_calling (g := g) h hdg hn hkY hinitY
      (X.room_calling (g := g) (R' := (headSpec [w] (am_rm G d σ)).room) hsize hmY hcY hframes (by rw [hlY]; omega) h4 h5) h1
  obtain ⟨mid, hmid⟩ := h.above
  have hfr : (U.setTop g).frames = (.java g :: mid) ++ below := by rw [State.frames_setTop' g h.top, hmid]; rfl
  obtain ⟨o, s₂, hsteps, -, hend, hq⟩ := Steps.callFree hM p X.admits X.cas X.clock (acts := []) hfr happ hPc trivial
  have hq' : am_Qx G Q (am_bc G - σ.2.1) (am_bs G - σ.2.2) a (U.calling g mk a) o s₂ := hq
  rw [State.frames_setTop' g h.top] at hend
  obtain ⟨g₀, hg0⟩ := Option.isSome_iff_exists.mp h.top
  obtain ⟨r, hr⟩ := State.topJava?_eq_some.mp hg0
  have hr' : (({ U with heap := s₂.heap, slotsUsed := s₂.slotsUsed } : State).setVm s₂.vm).frames = .java g₀ :: r := hr
  rcases hq' with ⟨hqc, L, hfe, hL⟩ | ⟨q, σ', L, rfl, hQ', hw', hW₂, hsm, hL⟩
  · obtain ⟨⟨v, rfl⟩, hW₂, e2, q2, q3, q4, q5, q6⟩ := id hfe
    obtain ⟨v', σ', ev, hQ', hw'⟩ := hqc
    cases ev
    have e3 : s₂ = ({ (U.calling g mk a).setFrames s₂.frames with heap := s₂.heap, slotsUsed := s₂.slotsUsed } : State).setVm s₂.vm := by
      have : s₂ = ({ s₂ with vm := (U.calling g mk a).vm } : State).setVm s₂.vm := rfl
      rw [e2] at this
      exact this
    obtain ⟨c₂, i₂, len₂, hc₂, hd₂, hf₂⟩ := hend
    have hW' : U.WarmedH s₂.vm := hW₂
    have hcc : c₂ = c := by
      have h1 : s₂.code? g.method = U.code? g.method := by
        rw [State.code?_eq, State.code?_eq, hW'.alike.method?]
      exact Option.some.inj (hc₂.symm.trans (h1.trans h.code))
    subst hcc
    have hlen : len₂ = len := by rw [hdg] at hd₂; cases hd₂; rfl
    subst hlen
    have hs₂ : s₂ = (({ U with heap := s₂.heap, slotsUsed := s₂.slotsUsed } : State).setVm s₂.vm).setTop { g with pc := g.pc + len₂, stack := v.toList ++ g.stack } := by
      refine e3.trans ?_
      rw [hf₂, State.calling_eq h.top, State.setFrames_setFrames, State.setTop_of_frames _ hr', hr]
      rfl
    have hsame : U.sameButNew ({ U with heap := s₂.heap, slotsUsed := s₂.slotsUsed } : State) L (am_bc G - σ.2.1) (am_bs G - σ.2.2) := by
      refine ⟨?_, q2, q3, q4, q5, q6⟩
      obtain ⟨t, ht, -⟩ := State.frames_cons hr
      show ({ U with heap := s₂.heap, slotsUsed := s₂.slotsUsed } : State) = { U.setFrames U.frames with heap := s₂.heap, slotsUsed := s₂.slotsUsed }
      rw [State.setFrames_self ht]
    subst hg
    refine Or.inl ⟨v, ⟨(({ U with heap := s₂.heap, slotsUsed := s₂.slotsUsed } : State).setVm s₂.vm), Ls ++ L, c0 + (am_bc G - σ.2.1), s0 + (am_bs G - σ.2.2)⟩,
      ⟨X.admits, X.cas, X.clock, X.frames, X.room, X.hears, X.method, X.code, (X.here.setHeapUsed s₂.heap s₂.slotsUsed).setVm hW'.alike, X.tail, State.WarmedH.trans X.warmed hW', X.limits, X.bytes, X.same.trans (hsame.setVm s.vm)⟩,
      ⟨σ', L, hQ', hw', rfl, hL⟩, ?_⟩
    show Steps p.tables e below _ ((({ U with heap := s₂.heap, slotsUsed := s₂.slotsUsed } : State).setVm s₂.vm).setTop { g with pc := g.pc + len₂, stack := v.toList ++ g.stack })
    rw [← hs₂]
    exact hsteps
  · obtain ⟨e2, q2, q3, q4, q5, q6⟩ := id hsm
    have e3 : s₂ = ({ (U.calling g mk a).setFrames s₂.frames with heap := s₂.heap, slotsUsed := s₂.slotsUsed } : State).setVm s₂.vm := by
      have : s₂ = ({ s₂ with vm := (U.calling g mk a).vm } : State).setVm s₂.vm := rfl
      rw [e2] at this
      exact this
    have hf₂ : s₂.frames = .throwing q :: .java g :: U.frames.tail := hend
    have hW' : U.WarmedH s₂.vm := hW₂
    have hs₂ : s₂ = ((({ U with heap := s₂.heap, slotsUsed := s₂.slotsUsed } : State).setVm s₂.vm).setTop g).pushFrame (.throwing q) := by
      refine e3.trans ?_
      rw [hf₂, State.calling_eq h.top, State.setFrames_setFrames, State.pushFrame, State.frames_setTop _ hr', State.setTop_of_frames _ hr', State.setFrames_setFrames, hr]
      rfl
    have hsame : U.sameButNew ({ U with heap := s₂.heap, slotsUsed := s₂.slotsUsed } : State) L (am_bc G - σ.2.1) (am_bs G - σ.2.2) := by
      refine ⟨?_, q2, q3, q4, q5, q6⟩
      obtain ⟨t, ht, -⟩ := State.frames_cons hr
      show ({ U with heap := s₂.heap, slotsUsed := s₂.slotsUsed } : State) = { U.setFrames U.frames with heap := s₂.heap, slotsUsed := s₂.slotsUsed }
      rw [State.setFrames_self ht]
    subst hg
    refine Or.inr ⟨q, ⟨(({ U with heap := s₂.heap, slotsUsed := s₂.slotsUsed } : State).setVm s₂.vm), Ls ++ L, c0 + (am_bc G - σ.2.1), s0 + (am_bs G - σ.2.2)⟩,
      ⟨X.admits, X.cas, X.clock, X.frames, X.room, X.hears, X.method, X.code, (X.here.setHeapUsed s₂.heap s₂.slotsUsed).setVm hW'.alike, X.tail, State.WarmedH.trans X.warmed hW', X.limits, X.bytes, X.same.trans (hsame.setVm s.vm)⟩,
      ⟨σ', L, hQ', hw', rfl, hL⟩, ?_⟩
    show Steps p.tables e below _ (((({ U with heap := s₂.heap, slotsUsed := s₂.slotsUsed } : State).setVm s₂.vm).setTop g).pushFrame (.throwing q))
    rw [← hs₂]
    exact hsteps
end
/-- where a call goes on -/
def am_K2 (G : am_G) (M : am_M) (pc d : Nat) (L : List (Nat × Value)) (rest : List Value) (Q : am_R → am_S → Prop) : am_R → am_S → Prop := fun r σ => match r with
  | .inl v => am_Wp G M (pc + 3) d L (v.toList ++ rest) σ Q
  | .inr q => am_Wx G M pc d L σ q Q
section
variable {G : am_G} {M : am_M} {pc d : Nat} {L : List (Nat × Value)} {rest : List Value} {σ : am_S} {Q : am_R → am_S → Prop}
variable {p : Program} {e : Env} {R : Room} {s : State} {m : MethodId} {args : Array Value} {below : List Frame} {meth : Method} {c : Code} {H : Heap} {T : State} {locs : List Loc} {cells slots : Nat}
/-- behind a call -/
theorem am_behind {a : Array Value} {ls : Array Slot} {st : List Value} (C : am_Cx G M d p R s m meth c) (hA : ∀ z ∈ locs, am_A G z.base) (hl : am_has ls M.2.2.1 L) {c0 s0 : Nat}
    (h : (∃ (v : Option Value) (vm₁ : Vm) (B : Pt), s.WarmedH vm₁ ∧ Stand p (am_l G) e R s m args below meth c B.U B.locs B.cells B.slots ∧ am_Po G (am_K2 G M pc d L rest Q) ⟨T.setVm vm₁, locs, c0, s0⟩ a v B ∧
        ∀ target, Steps p.tables e below (B.U.setTop { F0 m pc ls st with pc := pc + 3, stack := v.toList ++ rest }) target → Steps p.tables e below (T.setTop (F0 m pc ls st)) target) ∨
      (∃ (q : Addr) (vm₁ : Vm) (B : Pt), s.WarmedH vm₁ ∧ Stand p (am_l G) e R s m args below meth c B.U B.locs B.cells B.slots ∧ am_Px G (am_K2 G M pc d L rest Q) ⟨T.setVm vm₁, locs, c0, s0⟩ a q B ∧
        Steps p.tables e below (T.setTop (F0 m pc ls st)) ((B.U.setTop { F0 m pc ls st with stack := rest }).pushFrame (.throwing q)))) :
    ∃ t, Steps p.tables e below (T.setTop (F0 m pc ls st)) t ∧ am_end G Q below args s R t := by
  rcases h with ⟨v, vm₁, B, hW, X, ⟨σ', L', hQ, hw, hB, hL⟩, st⟩ | ⟨q, vm₁, B, hW, X, ⟨σ', L', hQ, hw, hB, hL⟩, st⟩
  · have hB' : B.locs = locs ++ L' := hB
    have hA' : ∀ z ∈ B.locs, am_A G z.base := by
      intro z hz
      rw [hB'] at hz
      rcases List.mem_append.mp hz with h1 | h1
      · exact hA z h1
      · exact hL z h1
    obtain ⟨t, a1, b1⟩ := hQ p e R s m args below meth c B.U.heap B.locs B.cells B.slots ls C hw hA' hl B.U rfl X
    exact ⟨t, st t a1, b1⟩
  · have hB' : B.locs = locs ++ L' := hB
    have hA' : ∀ z ∈ B.locs, am_A G z.base := by
      intro z hz
      rw [hB'] at hz
      rcases List.mem_append.mp hz with h1 | h1
      · exact hA z h1
      · exact hL z h1
    obtain ⟨t, a1, b1⟩ := hQ p e R s m args below meth c B.U.heap B.locs B.cells B.slots ls rest C hw hA' hl B.U rfl X
    exact ⟨t, st.trans a1, b1⟩
/-- what a call finds -/
theorem am_pre {as : List Value} {R0 : Room} (X : Stand p (am_l G) e R s m args below meth c T locs cells slots) (C : am_Cx G M d p R s m meth c) (hA : ∀ z ∈ locs, am_A G z.base) (hw : am_hw G σ T.heap) (vm₁ : Vm) (hW : s.WarmedH vm₁) :
    am_Pre G R as σ ⟨T.setVm vm₁, locs, T.heap.size - s.heap.size, ((T.heap.toList.drop s.heap.size).map (fun c : Cell => c.slots.size)).sum⟩ as.toArray := by
  obtain ⟨hx, hb, hr, hml, hown, hlocks, hname, htab, hfr, hroom, hK, hsK, hhK⟩ := C
  have hg : am_used (am_z G) T.heap = am_used (am_z G) s.heap + ((T.heap.toList.drop s.heap.size).map (fun c : Cell => c.slots.size)).sum := am_grow X hroom.2.2
  have h1 : T.heap.size = σ.2.1 := hw.1
  have h2 : am_used (am_z G) T.heap = σ.2.2 := hw.2.1
  have h3 := hw.2.2.1
  have h4 := hw.2.2.2.1
  have h5 := hroom.1
  have h6 := hroom.2.1
  have hsz : s.heap.size ≤ T.heap.size := X.same.2.1
  have hhK2 : am_hK G s T.heap := hhK.kept fun q hq hn => am_frame X hA q hq hn
  have hW' : s.WarmedH (T.setVm vm₁).vm := hW
  have n1 : T.heap.size - s.heap.size + (am_bc G - σ.2.1) ≤ R.cells := by
    generalize am_bc G = bc at h3 h5 ⊢
    omega
  have n2 : ((T.heap.toList.drop s.heap.size).map (fun c : Cell => c.slots.size)).sum + (am_bs G - σ.2.2) ≤ R.slots := by
    generalize am_bs G = bs at h4 h6 ⊢
    omega
  exact ⟨n1, n2, rfl, hw, hK.warm hW', hsK.warm hW', am_hK.moved hW'.alike hhK2⟩
end
