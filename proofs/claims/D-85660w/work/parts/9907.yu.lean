set_option maxRecDepth 100000
/-- a body of the kind at ka -/
def isBo (F : am_H) (ka : Nat) (x : Int32 × Term) (v : Nat) : Prop := ∃ f rb, F v = some (.inr (22, f)) ∧ f 0 = va_rf (some ka) ∧ f 1 = .int x.1 ∧ f 2 = va_rf (some rb) ∧ isBk F rb (xL F x.2)
theorem isBo.mono {F F1 : am_H} {ka v : Nat} {x : Int32 × Term} (h : isBo F ka x v) (hF : FE F F1) : isBo F1 ka x v := by
  obtain ⟨f, rb, h1, h2, h3, h4, h5⟩ := h
  exact ⟨f, rb, hF _ _ h1, h2, h3, h4, isBk.mono hF (fun o j k => xL.mono hF _ _ _ _) h5⟩
/-- a kind at a, the one above at ab: its statics as they began -/
def KP (F : am_H) (a : Nat) (ab : Option Nat) (kd : Kd) : Prop := ∃ (f : Nat → Value) (c3 c4 c5 c6 c7 c8 : Nat) (g3 g4 g5 g6 g7 : Nat → Int32) (g8 : Nat → Option Nat), F a = some (.inr (21, f)) ∧ f 0 = .int (kN kd) ∧ f 1 = .int (kG kd) ∧ f 2 = va_rf ab ∧ (f 3 = va_rf (some c3) ∧ F c3 = some (.inl (0, (kF kd).length, .inl g3))) ∧ (f 4 = va_rf (some c4) ∧ F c4 = some (.inl (0, (kF kd).length, .inl g4))) ∧ (f 5 = va_rf (some c5) ∧ F c5 = some (.inl (0, (kS kd).length, .inl g5))) ∧ (f 6 = va_rf (some c6) ∧ F c6 = some (.inl (0, (kS kd).length, .inl g6))) ∧ (f 7 = va_rf (some c7) ∧ F c7 = some (.inl (0, (kF kd).length, .inl g7))) ∧ (f 8 = va_rf (some c8) ∧ F c8 = some (.inl (8, (kX kd).length, .inr (.inr (.inr (.inr g8)))))) ∧ ((kF kd).length ≤ 8 ∧ (kS kd).length ≤ 4 ∧ (kX kd).length ≤ 8) ∧ (∀ (q : Nat) (x : Int32 × Int32 × Int32), (kF kd)[q]? = some x → g3 q = x.1 ∧ g4 q = x.2.1 ∧ (kC kd = true → g7 q = x.2.2)) ∧ (∀ (q : Nat) (x : Int32 × Int32), (kS kd)[q]? = some x → g5 q = x.1 ∧ g6 q = x.2) ∧ ∀ (q : Nat) (x : Int32 × Term), (kX kd)[q]? = some x → ∃ v, g8 q = some v ∧ isBo F a x v
theorem KP.mono {F F1 : am_H} {a : Nat} {ab : Option Nat} {kd : Kd} (h : KP F a ab kd) (hF : FE F F1) : KP F1 a ab kd := by
  obtain ⟨f, c3, c4, c5, c6, c7, c8, g3, g4, g5, g6, g7, g8, h1, h2, h3, h4, h5, h6, h7, h8, h9, h10, h11, h12, h13, h14⟩ := h
  refine ⟨f, c3, c4, c5, c6, c7, c8, g3, g4, g5, g6, g7, g8, hF _ _ h1, h2, h3, h4, ⟨h5.1, hF _ _ h5.2⟩, ⟨h6.1, hF _ _ h6.2⟩, ⟨h7.1, hF _ _ h7.2⟩, ⟨h8.1, hF _ _ h8.2⟩, ⟨h9.1, hF _ _ h9.2⟩, ⟨h10.1, hF _ _ h10.2⟩, h11, h12, h13, fun q x hx => ?_⟩
  obtain ⟨v, hv1, hv2⟩ := h14 q x hx
  exact ⟨v, hv1, hv2.mono hF⟩
section
variable {G : am_G} {d m : Nat} {F : am_H} {D : xs_D} {ξ : xs_X} {σ : am_S}
/-- an array of the draft is copied for the kind -/
theorem X_kiStep (H : XS F D ξ σ) (hT : TD D) {i n1 : Nat} (ri : rl D i n1 21) {fm : Int32 × Int32 × Int32 → Int32} {a c : Nat} {ab : Int32} {kd : Kd} (hDR : DR F D ξ fm a c ab kd) (hni : ¬ drR a c i) {j k kj kk q : Nat} (hj : j < 5) (hkj : kj = 3 + j) (hk : xs_rf 21 k = true) (hkk : xI ξ (2000 + a) kk = nI q) (hkr : xs_rf 8 kk = false) (hjr : xs_rf 8 kj = true) (hq : q ≤ if j = 3 ∨ j = 4 then 4 else 8) (hcr : cr G (m + (q + 1)) σ) {K : am_S → Prop} (hK : ∀ F1 ξ1 σ1 b g, FE F F1 → XS F1 D ξ1 σ1 → (∀ j', D.2.2 j' → j' ≠ i → sc ξ ξ1 j') → xI ξ1 i = xI ξ i → xR ξ1 i k = some b → (∀ r, r ≠ k → xR ξ1 i r = xR ξ i r) → F1 b = some (.inl (0, q, .inl g)) → (∀ r, r < q → g r = xA ξ (2000 + (c + j)) r) → cr G m σ1 → K σ1) : f_gr σ (some a) [8] kj (fun v => f_gi σ (some a) [8] kk (fun v6 => W_J8_copyOf_3 G (d + 1) v v6 σ (fun v7 σ8 => f_p σ8 (some n1) [21] k (va_rf v7) (fun σ11 => K σ11)))) := by
  subst hkj
  obtain ⟨d1, d2, d3⟩ := hDR.2.2.1 j (by omega)
  have d2' : rl D (2000 + (c + j)) (c + j) 100 := by rw [if_neg (by omega)] at d2; exact d2
  refine x_gr H hDR.2.1 ⟨by decide, by decide, hjr⟩ d1 (x_gi H hDR.2.1 ⟨by decide, by decide, hkr⟩ hkk (X_copyOf3F H hT d2' d3 hq (by split <;> omega) rfl hcr fun F1 ξ1 σ1 b g f1 H1 s1 hb hg c1 => x_pr H1 ri ⟨by decide, by decide, hk⟩ fun σ2 H2 e2 => ?_))
  exact hK F1 _ σ2 b g f1 H2 (fun j' hj' hne => (s1 j' hj').trans (sR_sc hne)) (s1 i ri.1).1 sR_s (fun r hr => (sR_o hr).trans (congrFun (s1 i ri.1).2.1 r)) hb hg (c1.eq e2)
/-- the kind's bodies -/
theorem X_kiBodies {fm : Int32 × Int32 × Int32 → Int32} {a c i i8 n1 b8 : Nat} {ab : Int32} {kd : Kd} (ri : rl D i n1 21) (ri8 : rl D i8 b8 108) (hi8 : i ≠ i8) (hni : ¬ drR a c i) (hni8 : ¬ drR a c i8) (hT : TD D) {Q : am_S → Prop} {F0 : am_H} {ξ0 : xs_X} (hQ : ∀ F' ξ' σ', FE F0 F' → XS F' D ξ' σ' → (∀ q, D.2.2 q → q ≠ i8 → sc ξ0 ξ' q) → xN ξ' i8 = (kX kd).length → (∀ (q : Nat) (x : Int32 × Term), (kX kd)[q]? = some x → ∃ v, xQ ξ' i8 q = some v ∧ isBo F' n1 x v) → cr G m σ' → Q σ') (h8 : xR ξ0 i 8 = some b8) : ∀ (f j : Nat) (F : am_H) (ξ : xs_X) (σ : am_S) {y : Int32}, j + f = (kX kd).length → y = nI j → FE F0 F → XS F D ξ σ → DR F D ξ fm a c ab kd → (∀ q, D.2.2 q → q ≠ i8 → sc ξ0 ξ q) → xN ξ i8 = (kX kd).length → (∀ (q : Nat) (x : Int32 × Term), q < j → (kX kd)[q]? = some x → ∃ v, xQ ξ i8 q = some v ∧ isBo F n1 x v) → cr G (m + f) σ → B_X23_init_111 G (d + 2) n1 (some a) y σ Q
  | 0, j, F, ξ, σ, y, hf, hy, hF, H, hDR, hs, hn, hb, hcr => by
    subst hy
    have hl8 : (kX kd).length ≤ 8 := hDR.2.2.2.2.2.2.2.2.1
    refine B_X23_init_111_f (x_gi H hDR.2.1 (by decide) hDR.2.2.2.2.2.2.2.1 ⟨fun _ => ?_, fun c => absurd (nI_le (a := (kX kd).length) (b := j) (by omega) (by omega)) c⟩)
    exact hQ F ξ σ hF H hs hn (fun q x hx => hb q x (by have := get_lt hx; omega) hx) hcr
  | f + 1, j, F, ξ, σ, y, hf, hy, hF, H, hDR, hs, hn, hb, hcr => by
    subst hy
    have hl8 : (kX kd).length ≤ 8 := hDR.2.2.2.2.2.2.2.2.1
    have hjl : j < (kX kd).length := by omega
    obtain ⟨x, hx⟩ : ∃ x, (kX kd)[j]? = some x := ⟨_, List.getElem?_eq_getElem hjl⟩
    refine B_X23_init_111_f (x_gi H hDR.2.1 (by decide) hDR.2.2.2.2.2.2.2.1 ⟨fun c => absurd c (nI_ge hjl (by omega)), fun _ => ?_⟩)
    have h8' : xR ξ i 8 = some b8 := (congrFun (hs i ri.1 hi8).2.1 8).trans h8
    refine x_gr H ri (by decide) h8' (x_new (j := 1) (m := m + f) H hT ok_22 (by decide) (hcr.le (by omega)) ⟨by omega, by omega⟩ rfl fun D1 ξ1 σ1 ib xd td nib rib _ H1 s1 z1 z2 c1 hF1 => ?_)
    have hDR1 := hDR.up FE.refl xd fun q hq => s1 q (hDR.has hq).1
    obtain ⟨p1, p2, p3⟩ := hDR1.2.2.1 5 (by omega)
    obtain ⟨q1, q2, q3⟩ := hDR1.2.2.1 6 (by omega)
    obtain ⟨u1, rb, u2, u3⟩ := hDR1.2.2.2.2.2.2.2.2.2 j x hx
    refine x_gr H1 hDR1.2.1 (by decide) p1 (x_ai (n := 8) (q := j) H1 p2 (by decide) p3 rfl (by omega) (by decide) u1 (x_gr H1 hDR1.2.1 (by decide) q1 (x_ar (n := 8) (q := j) H1 q2 (by decide) q3 rfl (by omega) (by decide) u2 ?_)))
    refine W_X24_init_f (d := d) (x_pr H1 rib (by decide) fun σ2 H2 e2 => x_p H2 rib (by decide) fun σ3 H3 e3 => x_pr H3 rib (by decide) fun σ4 H4 e4 => ?_)
    have hbi : ∀ q, D.2.2 q → q ≠ ib := fun q hq e => nib (e ▸ hq)
    obtain ⟨F', f1, f2, f3⟩ := X_frz1 H4 xd nib rib (fun _ _ => tf_no (by decide))
    obtain ⟨fv, g1, g2, g3⟩ := xE_f (c := 22) (i := ib) (ξ := xs_sR (xs_sI (xs_sR ξ1 ib 0 (some n1)) ib 1 x.1) ib 2 (some rb)) (by decide)
    have hF'v : F' σ.2.1 = some (.inr (22, fv)) := f2.trans (congrArg some g1)
    have s4 : ∀ q, D.2.2 q → sc ξ (xs_sR (xs_sI (xs_sR ξ1 ib 0 (some n1)) ib 1 x.1) ib 2 (some rb)) q := fun q hq => (((s1 q hq).trans (sR_sc (hbi q hq))).trans (sI_sc (hbi q hq))).trans (sR_sc (hbi q hq))
    have hn4 := (s4 i8 ri8.1).2.2.2.2.trans hn
    refine x_sr (n := (kX kd).length) (q := j) f3 ri8 (by decide) hn4 rfl hjl (by omega) (fun b hb9 => z_k f3 hF'v (by decide) trivial) fun σ5 H5 e5 => ?_
    have hbo : isBo F' n1 x σ.2.1 := by
      refine ⟨fv, rb, hF'v, (g3 0 (by decide)).trans ?_, (g2 1 (by decide)).trans ?_, (g3 2 (by decide)).trans ?_, isBk.mono f1 (fun o j k => xL.mono f1 _ _ _ _) u3⟩
      · rw [sR_o (by decide)]
        show va_rf (xR (xs_sR ξ1 ib 0 (some n1)) ib 0) = _
        rw [sR_s]
      · show Value.int (xI (xs_sI (xs_sR ξ1 ib 0 (some n1)) ib 1 x.1) ib 1) = _
        rw [sI_s]
      · rw [sR_s]
    have e9 : nI j + 1 = nI (j + 1) := nI_1 j
    rw [e9]
    have hsq : ∀ q, D.2.2 q → q ≠ i8 → sc ξ (xs_sQ (xs_sR (xs_sI (xs_sR ξ1 ib 0 (some n1)) ib 1 x.1) ib 2 (some rb)) i8 j (some σ.2.1)) q := fun q hq hne => (s4 q hq).trans (sQ_sc hne)
    refine X_kiBodies ri ri8 hi8 hni hni8 hT hQ h8 f (j + 1) F' _ σ5 (by omega) rfl (hF.trans f1) H5 (hDR.up f1 XD.refl fun q hq => hsq q (hDR.has hq).1 fun e => hni8 (e ▸ hq)) (fun q hq hne => (hs q hq hne).trans (hsq q hq hne)) hn4 (fun q y hq hy => ?_) ((((c1.eq e2).eq e3).eq e4).eq e5)
    by_cases hqj : q = j
    · subst hqj
      rw [hx] at hy
      cases hy
      exact ⟨σ.2.1, sQ_s, hbo⟩
    · obtain ⟨v, v1, v2⟩ := hb q y (by omega) hy
      refine ⟨v, ?_, v2.mono f1⟩
      rw [sQ_o hqj, (s4 i8 ri8.1).2.2.2.1]
      exact v1
/-- a kind is made of a draft -/
theorem X_kindInit (H : XS F D ξ σ) (hT : TD D) {D0 : xs_D} (hD0 : XD D0 D) {i n1 a c : Nat} {ab : Int32} {kd : Kd} (ri : rl D i n1 21) (hi0 : ¬ D0.2.2 i) (hDR : DR F D ξ fmP a c ab kd) (hni : ¬ drR a c i) {abk : Option Nat} {g : Int32} (hcr : cr G (m + 60) σ) {Q : am_S → Prop} (hQ : ∀ F' ξ' σ', FE F F' → XS F' D0 ξ' σ' → (∀ q, D0.2.2 q → sc ξ ξ' q) → KP F' n1 abk ((kN kd, kA kd, g, kC kd, kO kd), kd.2) → cr G m σ' → Q σ') : W_X23_init G (d + 2) n1 (some a) abk g σ Q := by
  have hlF : (kF kd).length ≤ 8 := hDR.2.2.2.2.2.1.2.1
  have hlS : (kS kd).length ≤ 4 := hDR.2.2.2.2.2.2.1.2.1
  have hlX : (kX kd).length ≤ 8 := hDR.2.2.2.2.2.2.2.2.1
  have e10 := hDR.2.2.2.2.2.1.1
  have e11 := hDR.2.2.2.2.2.2.1.1
  have e12 := hDR.2.2.2.2.2.2.2.1
  have hid : ∀ q, drR a c q → q ≠ i := fun q hq e => hni (e ▸ hq)
  refine W_X23_init_f (x_gi H hDR.2.1 (by decide) hDR.2.2.2.1 (x_p H ri (by decide) fun σ1 H1 e1 => x_pr H1 ri (by decide) fun σ2 H2 e2 => x_p H2 ri (by decide) fun σ3 H3 e3 => ?_))
  have s3 : ∀ q, q ≠ i → sc ξ (xs_sI (xs_sR (xs_sI ξ i 0 (kN kd)) i 2 abk) i 1 g) q := fun q hq => ((sI_sc hq).trans (sR_sc hq)).trans (sI_sc hq)
  have z0 : xI (xs_sI (xs_sR (xs_sI ξ i 0 (kN kd)) i 2 abk) i 1 g) i 0 = kN kd := (sI_o (by decide)).trans sI_s
  have z1 : xI (xs_sI (xs_sR (xs_sI ξ i 0 (kN kd)) i 2 abk) i 1 g) i 1 = g := sI_s
  have z2 : xR (xs_sI (xs_sR (xs_sI ξ i 0 (kN kd)) i 2 abk) i 1 g) i 2 = abk := sR_s
  revert H3 s3 z0 z1 z2
  generalize xs_sI (xs_sR (xs_sI ξ i 0 (kN kd)) i 2 abk) i 1 g = ξ3
  intro H3 s3 z0 z1 z2
  have hDR3 := hDR.up FE.refl XD.refl fun q hq => s3 q (hid q hq)
  -- fields
  refine X_kiStep (d := d) (m := m + 50) (q := (kF kd).length) (j := 0) H3 hT ri hDR3 hni (by decide) rfl (by decide) hDR3.2.2.2.2.2.1.1 (by decide) (by decide) (by rw [if_neg (by decide)]; exact hlF) ((((hcr.eq e1).eq e2).eq e3).le (by omega)) fun F4 ξ4 σ4 b4 g4 f4 H4 s4 i4 r4 o4 hb4 hg4 c4 => ?_
  have hDR4 := hDR3.up f4 XD.refl fun q hq => s4 q (hDR3.has hq).1 (hid q hq)
  refine X_kiStep (d := d) (m := m + 40) (q := (kF kd).length) (j := 1) H4 hT ri hDR4 hni (by decide) rfl (by decide) hDR4.2.2.2.2.2.1.1 (by decide) (by decide) (by rw [if_neg (by decide)]; exact hlF) (c4.le (by omega)) fun F5 ξ5 σ5 b5 g5 f5 H5 s5 i5 r5 o5 hb5 hg5 c5 => ?_
  have hDR5 := hDR4.up f5 XD.refl fun q hq => s5 q (hDR3.has hq).1 (hid q hq)
  refine X_kiStep (d := d) (m := m + 30) (q := (kF kd).length) (j := 2) H5 hT ri hDR5 hni (by decide) rfl (by decide) hDR5.2.2.2.2.2.1.1 (by decide) (by decide) (by rw [if_neg (by decide)]; exact hlF) (c5.le (by omega)) fun F6 ξ6 σ6 b6 g6 f6 H6 s6 i6 r6 o6 hb6 hg6 c6 => ?_
  have hDR6 := hDR5.up f6 XD.refl fun q hq => s6 q (hDR3.has hq).1 (hid q hq)
  refine X_kiStep (d := d) (m := m + 24) (q := (kS kd).length) (j := 3) H6 hT ri hDR6 hni (by decide) rfl (by decide) hDR6.2.2.2.2.2.2.1.1 (by decide) (by decide) (by rw [if_pos (by decide)]; exact hlS) (c6.le (by omega)) fun F7 ξ7 σ7 b7 g7 f7 H7 s7 i7 r7 o7 hb7 hg7 c7 => ?_
  have hDR7 := hDR6.up f7 XD.refl fun q hq => s7 q (hDR3.has hq).1 (hid q hq)
  refine X_kiStep (d := d) (m := m + 18) (q := (kS kd).length) (j := 4) H7 hT ri hDR7 hni (by decide) rfl (by decide) hDR7.2.2.2.2.2.2.1.1 (by decide) (by decide) (by rw [if_pos (by decide)]; exact hlS) (c7.le (by omega)) fun F8 ξ8 σ8 b8 g8 f8 H8 s8 i8 r8 o8 hb8 hg8 c8 => ?_
  have hDR8 := hDR7.up f8 XD.refl fun q hq => s8 q (hDR3.has hq).1 (hid q hq)
  refine x_gi H8 hDR8.2.1 (by decide) hDR8.2.2.2.2.2.2.2.1 (x_nar (n := (kX kd).length) (j := 4) (m := m + 14) H8 hT rfl (by decide) (c8.le (by omega)) ⟨by omega, by omega, by omega⟩ fun D9 ξ9 σ9 ia xd td nia ria _ H9 s9 n9 q9 c9 hF9 => x_pr H9 (xd _ _ _ ri) (by decide) fun σ10 H10 e10' => ?_)
  have hia : i ≠ ia := fun e => nia (e ▸ ri.1)
  have hnia : ¬ drR a c ia := fun h => nia (hDR.has h).1
  have hDR10 := hDR8.up FE.refl xd fun q hq => (s9 q (hDR3.has hq).1).trans (sR_sc (ξ := ξ9) (i := i) (k := 8) (v := some σ8.2.1) (hid q hq))
  refine X_kiBodies (m := m) (F0 := F8) (ξ0 := xs_sR ξ9 i 8 (some σ8.2.1)) (xd _ _ _ ri) ria hia hni hnia td (fun F' ξ' σ' f' H' s' n' hb' c' => ?_) sR_s (kX kd).length 0 F8 _ σ10 (by omega) rfl FE.refl H10 hDR10 (fun q _ _ => sc.refl) ((sR_sc (Ne.symm hia)).2.2.2.2.trans n9) (fun q x hq => absurd hq (by omega)) ((c9.eq e10').le (by omega))
  obtain ⟨H11, hF11⟩ := H'.frz (xd _ _ _ ri) (fun _ _ => tf_no (by decide))
  have ria' : rl (D9.1, D9.2.1, fun j => j ≠ i ∧ D9.2.2 j) ia σ8.2.1 108 := ⟨⟨Ne.symm hia, ria.1⟩, ria.2.1, ria.2.2⟩
  obtain ⟨H12, hF12⟩ := H11.frz ria' (fun _ _ => tf_no (by decide))
  have hFE : FE F8 (fzF (fzF F' n1 (xs_E 21 i ξ')) σ8.2.1 (xs_E 108 ia ξ')) := (f'.trans (fzF_FE hF11)).trans (fzF_FE hF12)
  have hn1 : n1 ≠ σ8.2.1 := fun e => hia (H'.2.2.1 i ia (xd _ _ _ ri).1 ria.1 (by rw [(xd _ _ _ ri).2.1, ria.2.1, e]))
  have hF0 : FE F F8 := (((f4.trans f5).trans f6).trans f7).trans f8
  have hi9 := s9 i ri.1
  have hi' := s' i (xd _ _ _ ri).1 hia
  have hR9 : ∀ k, k ≠ 8 → xR ξ' i k = xR ξ8 i k := fun k hk => by rw [hi'.2.1, sR_o hk, hi9.2.1]
  have hR8 : xR ξ' i 8 = some σ8.2.1 := by rw [hi'.2.1, sR_s]
  have hI9 : ∀ k, xI ξ' i k = xI ξ3 i k := fun k => by
    rw [hi'.1]
    show xI ξ9 i k = _
    rw [hi9.1, i8, i7, i6, i5, i4]
  obtain ⟨fv, v1, v2, v3⟩ := xE_f (c := 21) (i := i) (ξ := ξ') (by decide)
  have hFn : fzF (fzF F' n1 (xs_E 21 i ξ')) σ8.2.1 (xs_E 108 ia ξ') n1 = some (.inr (21, fv)) := by
    unfold fzF
    rw [if_neg hn1, if_pos rfl, v1]
  refine hQ _ ξ' σ' (hF0.trans hFE) (H12.cong ((((hD0.trans xd).drop hi0)).drop fun h => nia (hD0.has h))) (fun q hq => ?_) ?_ c'
  · have hqi : q ≠ i := fun e => hi0 (e ▸ hq)
    have hq' := hD0.has hq
    have hqa : q ≠ ia := fun e => nia (e ▸ hq')
    exact (((((((s3 q hqi).trans (s4 q hq' hqi)).trans (s5 q hq' hqi)).trans (s6 q hq' hqi)).trans (s7 q hq' hqi)).trans (s8 q hq' hqi)).trans ((s9 q hq').trans (sR_sc hqi))).trans (s' q (xd.has hq') hqa)
  · refine ⟨fv, b4, b5, b7, b8, b6, σ8.2.1, g4, g5, g7, g8, g6, xQ ξ' ia, hFn, ?_, ?_, ?_, ⟨?_, ?_⟩, ⟨?_, ?_⟩, ⟨?_, ?_⟩, ⟨?_, ?_⟩, ⟨?_, ?_⟩, ⟨?_, ?_⟩, ⟨hlF, hlS, hlX⟩, fun q x hx => ?_, fun q x hx => ?_, fun q x hx => ?_⟩
    · rw [v2 0 (by decide), hI9, z0]
    · rw [v2 1 (by decide), hI9, z1]
    · rw [v3 2 (by decide), hR9 2 (by decide), o8 2 (by decide), o7 2 (by decide), o6 2 (by decide), o5 2 (by decide), o4 2 (by decide), z2]
    · rw [v3 3 (by decide), hR9 3 (by decide), o8 3 (by decide), o7 3 (by decide), o6 3 (by decide), o5 3 (by decide), r4]
    · exact hFE _ _ (f8 _ _ (f7 _ _ (f6 _ _ (f5 _ _ hb4))))
    · rw [v3 4 (by decide), hR9 4 (by decide), o8 4 (by decide), o7 4 (by decide), o6 4 (by decide), r5]
    · exact hFE _ _ (f8 _ _ (f7 _ _ (f6 _ _ hb5)))
    · rw [v3 5 (by decide), hR9 5 (by decide), o8 5 (by decide), r7]
    · exact hFE _ _ (f8 _ _ hb7)
    · rw [v3 6 (by decide), hR9 6 (by decide), r8]
    · exact hFE _ _ hb8
    · rw [v3 7 (by decide), hR9 7 (by decide), o8 7 (by decide), o7 7 (by decide), r6]
    · exact hFE _ _ (f8 _ _ (f7 _ _ hb6))
    · rw [v3 8 (by decide), hR8]
    · refine fzF_s.trans ?_
      unfold xs_E
      rw [if_neg (by decide), if_neg (by decide), if_neg (by decide), if_neg (by decide)]
      show some (Sum.inl (8, xN ξ' ia, _)) = _
      rw [n']
    · have hq : q < (kF kd).length := get_lt hx
      refine ⟨?_, ?_, fun _ => ?_⟩
      · rw [hg4 q hq]; exact (hDR3.2.2.2.2.2.1.2.2 q x hx).1
      · rw [hg5 q hq]; exact (hDR4.2.2.2.2.2.1.2.2 q x hx).2.1
      · rw [hg6 q hq]; exact (hDR5.2.2.2.2.2.1.2.2 q x hx).2.2
    · have hq : q < (kS kd).length := get_lt hx
      refine ⟨?_, ?_⟩
      · rw [hg7 q hq]; exact (hDR6.2.2.2.2.2.2.1.2.2 q x hx).1
      · rw [hg8 q hq]; exact (hDR7.2.2.2.2.2.2.1.2.2 q x hx).2
    · obtain ⟨v, w1, w2⟩ := hb' q x hx
      exact ⟨v, w1, w2.mono ((fzF_FE hF11).trans (fzF_FE hF12))⟩
end
