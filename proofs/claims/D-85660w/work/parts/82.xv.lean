set_option maxRecDepth 100000
section
variable {G : am_G} {A : Nat → Nat} {T : Nat → Int32} {n d p : Nat} {N : ps_N} {F : am_H} {D : xs_D} {ξ : xs_X} {σ : am_S}
/-- a new thing is done, and frozen -/
theorem X_fin (h : XI G A T n p N F D ξ σ) {D1 : xs_D} {ξ4 : xs_X} {σ4 : am_S} {i a c : Nat} (hD : XD D D1) (hi : ¬ D.2.2 i) (hr : rl D1 i a c) (hs : ∀ q, D.2.2 q → sc ξ ξ4 q) (H4 : XS F D1 ξ4 σ4) (ht : tf (xs_E c i ξ4) (A 0) := by exact tf_no (by decide)) : ∃ F', FE F F' ∧ F' a = some (xs_E c i ξ4) ∧ XI G A T n p N F' D ξ4 σ4 ∧ pf D F ξ F' ξ4 ∧ xI ξ4 1 4 = xI ξ 1 4 ∧ xI ξ4 1 5 = xI ξ 1 5 := by
  have hR := h.1.2.2.1
  obtain ⟨F', f1, f2, f3⟩ := X_frz1 H4 hD hi hr (fun h9 hh => by
    rw [← hh.2.1, (hD _ _ _ hR.1).2.1]
    exact ht)
  have s1 := hs 1 hR.2.1.1
  have s0 := hs 0 hR.1.1
  exact ⟨F', f1, f2, h.up f3 f1 XD.refl h.1.2.1 (h.s0 hs), ⟨f1, fun q hq _ => hs q hq, fun q _ => congrFun s0.1 q, s0.2.1⟩, congrFun s1.1 4, congrFun s1.1 5⟩
/-- a unit -/
theorem X_unit1 (hG : GK G) {r : Nat} (hr : r ≤ 12) (hu : ∀ s, r = s + 1 → XSub G A T n (fun σ Q E => W_X4_unit G (d + 10) (A 1) σ Q E) (nI (12 - s)) (ps_unit T s)) (hw : ∀ s, r = s + 1 → XSub G A T n (fun σ Q E => W_X4_worth G (d + 10) (A 1) σ Q E) (nI (12 - s)) (ps_exp T (ps_unit T s))) : XSub G A T n (fun σ Q E => W_X4_unit G (d + 11) (A 1) σ Q E) (nI (12 - r)) (ps_unit T r) := fun p N F D ξ σ x Q E h h4 hx hcr hQ hE => by
  have hTD := h.1.2.1
  have hR := h.1.2.2.1
  have r1 := hR.2.1
  have hn : n ≤ 1000 := h.1.2.2.2.2.1
  obtain ⟨t4, t2, t0, tv⟩ := h.tok
  have b7 : ∀ {F : am_H} {D : xs_D} {ξ : xs_X} {σ : am_S} {p : Nat} {N : ps_N}, XI G A T n p N F D ξ σ → xR ξ 1 7 = some (A 0) := fun h => h.1.2.2.2.1.2.2.2.1
  unfold ps_unit at hQ hE
  refine W_X4_unit_f (x_gi h.1.1 r1 (by decide) rfl ⟨fun n4 => ?_, fun c4 => ?_⟩)
  · have n3 : ¬ lxt T p = 3 := fun e => n4 (t4.mpr e)
    rw [if_neg n3] at hQ hE
    refine x_gi h.1.1 r1 (by decide) rfl ⟨fun n2 => ?_, fun c2 => ?_⟩
    · have n2' : ¬ lxt T p = 2 := fun e => n2 (t2.mpr e)
      rw [if_neg n2'] at hQ hE
      -- v, last
      have own : ∀ (y : Int32) (t : Term) (p' : Nat) (F1 : am_H) (ξ1 : xs_X) (σ1 : am_S), (∀ (F : am_H) (a : Nat) (f : Nat → Value), F a = some (.inr (14, f)) → f 1 = .int y → xE F t a) → (y = 0 ∨ y = 1) → XI G A T n p' N F1 D ξ1 σ1 → pf D F ξ F1 ξ1 → xI ξ1 1 4 = xI ξ 1 4 → xI ξ1 1 5 = xI ξ 1 5 → cr G (600 * (n + 1 - p') + (x + 590)) σ1 → (∀ F' ξ' σ' v, XI G A T n p' N F' D ξ' σ' → pf D F ξ F' ξ' → xI ξ' 1 4 = nI (12 - r) → xI ξ' 1 5 = xI ξ 1 5 → cr G (600 * (n + 1 - p') + (x + 300)) σ' → xE F' t v → Q (some v) σ') → f_new G σ1 14 3 tyX16 (fun n30 σ31 => f_gr σ31 (some (A 1)) [4] 7 (fun v32 => W_X16_init G (d + 10) n30 v32 y σ31 (fun σ34 => Q (some n30) σ34))) := fun y t p' F1 ξ1 σ1 hE9 hy9 h1 hp1 k4 k5 c1 hQ9 => by
        refine x_new (c := 14) (j := 1) (m := 600 * (n + 1 - p') + (x + 300)) h1.1.1 hTD ok_14 (by decide) (c1.le (by omega)) ⟨by omega, by omega⟩ rfl fun D2 ξ2 σ2 i xd td ni ri _ H2 s2 i2 rr2 c2 hF2 => ?_
        refine x_gr H2 (xd _ _ _ r1) (by decide) ((congrFun (s2 1 r1.1).2.1 7).trans (b7 h1)) ?_
        refine W_X16_init_f (x_pr H2 ri (by decide) fun σ3 H3 e3 => W_X13_init_f (d := d + 8) (x_pr H3 ri (by decide) fun σ4 H4 e4 => ⟨hy9, x_p H4 ri (by decide) fun σ5 H5 e5 => ?_⟩))
        obtain ⟨F', f1, f2, f3, f4, f5, f6⟩ := X_fin h1 xd ni ri (fun q hq => (((s2 q hq).trans (sR_sc (show q ≠ i from fun e => ni (e ▸ hq)))).trans (sR_sc (show q ≠ i from fun e => ni (e ▸ hq)))).trans (sI_sc (show q ≠ i from fun e => ni (e ▸ hq)))) H5
        obtain ⟨f, g1, g2⟩ := xE_i (c := 14) (k := 1) (i := i) (by decide) (by decide) sI_s
        exact hQ9 F' _ σ5 σ1.2.1 f3 (hp1.trans f4) ((f5.trans k4).trans h4) (f6.trans k5) (((c2.eq e3).eq e4).eq e5) (hE9 F' _ f (f2.trans (congrArg some g1)) g2)
      refine x_o h.1.1 r1 (by decide) (X_takesWord (d := d + 1) (k := 14) h hG (by decide) hcr (fun e14 F1 ξ1 σ1 g1 g2 g3 g4 g5 g6 => y2 ?_) fun n14 => z2 ?_)
      · have e114 : lxt T p = 114 := e14
        rw [if_pos e114] at hQ
        exact own 0 Term.null _ F1 ξ1 σ1 (fun F a f e1 e2 => ⟨fun h => absurd h (by decide), f, e1, e2⟩) (Or.inl rfl) g1 g2 g3 g4 g6 fun F' ξ' σ' v k1 k2 k3 k4 k5 k6 => hQ Term.null _ N rfl F' ξ' σ' v k1 k2 k3 k4 g5 k5 k6
      · have n114 : ¬ lxt T p = 114 := n14
        rw [if_neg n114] at hQ hE
        refine x_o h.1.1 r1 (by decide) (X_takesWord (d := d + 1) (k := 15) h hG (by decide) hcr (fun e15 F1 ξ1 σ1 g1 g2 g3 g4 g5 g6 => y2 ?_) fun n15 => z2 ?_)
        · have e115 : lxt T p = 115 := e15
          rw [if_pos e115] at hQ
          exact own 1 Term.result _ F1 ξ1 σ1 (fun F a f e1 e2 => ⟨fun h => absurd h (by decide), f, e1, e2⟩) (Or.inr rfl) g1 g2 g3 g4 g6 fun F' ξ' σ' v k1 k2 k3 k4 k5 k6 => hQ Term.result _ N rfl F' ξ' σ' v k1 k2 k3 k4 g5 k5 k6
        · have n115 : ¬ lxt T p = 115 := n15
          rw [if_neg n115] at hQ hE
          -- behind the inner thing
          have b153 : ∀ (x1 : Int32) (s : Nat) (t t' : Term) (p' : Nat) (N' : ps_N) (F1 : am_H) (ξ1 : xs_X) (σ1 : am_S) (v : Nat), r = s + 1 → XI G A T n p' N' F1 D ξ1 σ1 → pf D F ξ F1 ξ1 → xI ξ1 1 4 = nI (12 - s) → xI ξ1 1 5 = xI ξ 1 5 → p < p' → cr G (600 * (n + 1 - p') + (x + 310)) σ1 → xE F1 t v → (x1 = 0 ∧ t' = t ∨ ¬ x1 = 0 ∧ t' = Term.old t) → (∀ F' ξ' σ' v, XI G A T n p' N' F' D ξ' σ' → pf D F ξ F' ξ' → xI ξ' 1 4 = nI (12 - r) → xI ξ' 1 5 = xI ξ 1 5 → p < p' → cr G (600 * (n + 1 - p') + (x + 300)) σ' → xE F' t' v → Q (some v) σ') → B_X4_unit_153 G (d + 11) (A 1) x1 (some v) σ1 Q E := fun x1 s t t' p' N' F1 ξ1 σ1 v hrs h1 hp1 k4 k5 hpp c1 ht hx1 hQ9 => by
            have q1 := h1.1.2.2.1.2.1
            refine B_X4_unit_153_f (x_gi h1.1.1 q1 (by decide) k4 (x_p h1.1.1 q1 (by decide) fun σ2 H2 e2 => ?_))
            have e4 : nI (12 - s) - 1 = nI (12 - r) := by
              rw [show (1 : Int32) = nI 1 from rfl, pk_sub (by omega)]
              congr 1
              omega
            rw [e4] at H2
            have h2 : XI G A T n p' N' F1 D (xs_sI ξ1 1 4 (nI (12 - r))) σ2 := ⟨h1.1.sI1 H2, h1.2.1, h1.2.2.1.up FE.refl (fun k hk => sI_o (by omega)) rfl, h1.2.2.2⟩
            have pf2 : pf D F ξ F1 (xs_sI ξ1 1 4 (nI (12 - r))) := hp1.trans ⟨FE.refl, fun q hq h9 => sI_sc fun e => h9 (by rw [e]; decide), fun k _ => congrFun (sI_sc (by decide)).1 k, (sI_sc (by decide)).2.1⟩
            refine ⟨fun c0 => ?_, fun n0 => ?_⟩
            · rcases hx1 with ⟨-, e⟩ | ⟨e, -⟩
              · rw [e] at hQ9
                exact hQ9 F1 _ σ2 v h2 pf2 sI_s ((sI_o (by decide)).trans k5) hpp ((c1.eq e2).le (by omega)) ht
              · exact absurd c0 e
            · rcases hx1 with ⟨e, -⟩ | ⟨-, e⟩
              · exact absurd e n0
              · rw [e] at hQ9
                refine x_new (c := 15) (j := 1) (m := 600 * (n + 1 - p') + (x + 300)) h2.1.1 hTD ok_15 (by decide) ((c1.eq e2).le (by omega)) ⟨by omega, by omega⟩ rfl fun D3 ξ3 σ3 i xd td ni ri _ H3 s3 i3 rr3 c3 hF3 => ?_
                refine x_gr H3 (xd _ _ _ q1) (by decide) ((congrFun (s3 1 q1.1).2.1 7).trans (b7 h2)) ?_
                refine W_X17_init_f (x_pr H3 ri (by decide) fun σ4 H4 e4 => W_X13_init_f (d := d + 8) (x_pr H4 ri (by decide) fun σ5 H5 e5 => x_pr H5 ri (by decide) fun σ6 H6 e6 => ?_))
                obtain ⟨F', f1, f2, f3, f4, f5, f6⟩ := X_fin h2 xd ni ri (fun q hq => (((s3 q hq).trans (sR_sc (show q ≠ i from fun e => ni (e ▸ hq)))).trans (sR_sc (show q ≠ i from fun e => ni (e ▸ hq)))).trans (sR_sc (show q ≠ i from fun e => ni (e ▸ hq)))) H6
                obtain ⟨f, g1, g2⟩ := xE_r (c := 15) (k := 1) (i := i) (by decide) (by decide) sR_s
                exact hQ9 F' _ σ6 _ f3 (pf2.trans f4) (f5.trans sI_s) (f6.trans ((sI_o (by decide)).trans k5)) hpp (((c3.eq e4).eq e5).eq e6) ⟨fun h => absurd h (by decide), f, v, f2.trans (congrArg some g1), g2, xT.mono f1 t _ _ _ _ _ ht⟩
          refine x_o h.1.1 r1 (by decide) (X_isSign h (t := 245) (Or.inl ⟨by decide, rfl⟩) ?_)
          by_cases h245 : lxt T p = 245
          · rw [if_pos h245]
            rw [if_pos h245] at hQ hE
            refine y1 (B_X4_unit_123_f (x_o h.1.1 r1 (by decide) (X_opens (d := d + 1) (x := x) h hG hr h4 (by rw [h245]; decide) hcr (fun s hrs F1 ξ1 σ1 g1 g2 g3 g4 g5 g6 => ⟨fun e => absurd e (by decide), fun _ => x_o g1.1.1 g1.1.2.2.1.2.1 (by decide) ?_⟩) fun h0 => ?_)))
            · subst hrs
              refine hu s rfl (lxe T p) N F1 D ξ1 σ1 (x + 590) _ E g1 g3 (by omega) g6 (fun t p' N' e1 F2 ξ2 σ2 v k1 k2 k3 k4 k5 k6 k7 => ⟨fun _ => ?_, fun e => absurd e (by decide)⟩) fun kd q N' e1 => (hE kd q N' (by show ps_b (ps_unit T s (lxe T p) N) _ = _; rw [e1]; rfl)).pre g2 XD.refl hTD hR (by omega)
              exact b153 1 s t (Term.old t) p' N' F2 ξ2 σ2 v rfl k1 (g2.trans k2) k3 (k4.trans g4) (by omega) (k6.le (by omega)) k7 (Or.inr ⟨by decide, rfl⟩) fun F' ξ' σ' v j1 j2 j3 j4 j5 j6 j7 => hQ (Term.old t) p' N' (by show ps_b (ps_unit T s (lxe T p) N) _ = _; rw [e1]; rfl) F' ξ' σ' v j1 j2 j3 j4 j5 j6 j7
            · subst h0
              exact (hE 3 _ N rfl).pre pf.refl XD.refl hTD hR (by omega)
          · rw [if_neg h245]
            rw [if_neg h245] at hQ hE
            refine z1 (x_o h.1.1 r1 (by decide) (X_isSign h (t := 240) (Or.inl ⟨by decide, rfl⟩) ?_))
            by_cases h240 : lxt T p = 240
            · rw [if_pos h240]
              rw [if_pos h240] at hQ hE
              refine y1 (B_X4_unit_123_f (x_o h.1.1 r1 (by decide) (X_opens (d := d + 1) (x := x) h hG hr h4 (by rw [h240]; decide) hcr (fun s hrs F1 ξ1 σ1 g1 g2 g3 g4 g5 g6 => ⟨fun _ => x_o g1.1.1 g1.1.2.2.1.2.1 (by decide) ?_, fun e => absurd rfl e⟩) fun h0 => ?_)))
              · subst hrs
                refine hw s rfl (lxe T p) N F1 D ξ1 σ1 (x + 590) _ E g1 g3 (by omega) g6 (fun t p' N' e1 F2 ξ2 σ2 v k1 k2 k3 k4 k5 k6 k7 => ⟨fun e => absurd rfl e, fun _ => x_o k1.1.1 k1.1.2.2.1.2.1 (by decide) ?_⟩) fun kd q N' e1 => (hE kd q N' (by show ps_b (ps_exp T (ps_unit T s) (lxe T p) N) _ = _; rw [e1]; rfl)).pre g2 XD.refl hTD hR (by omega)
                have hQ2 : ∀ a : Nat, True := fun _ => trivial
                refine X_needs (d := d) (x := x + 590 + 300) k1 hG (c := 41) (by decide) k6 (fun e2 F3 ξ3 σ3 j1 j2 j3 j4 j5 j6 => ?_) fun kd q N3 e2 => (hE kd q N3 (by show ps_b (ps_exp T (ps_unit T s) (lxe T p) N) _ = _; rw [e1]; show ps_b (ps_need T 41 p' N') _ = _; rw [e2]; rfl)).pre (g2.trans k2) XD.refl hTD hR (by omega)
                exact b153 0 s t t (lxe T p') N' F3 ξ3 σ3 v rfl j1 ((g2.trans k2).trans j2) (j3.trans k3) (j4.trans (k4.trans g4)) (by omega) (j6.le (by omega)) (xT.mono j2.1 t _ _ _ _ _ k7) (Or.inl ⟨rfl, rfl⟩) fun F' ξ' σ' v q1 q2 q3 q4 q5 q6 q7 => hQ t (lxe T p') N' (by show ps_b (ps_exp T (ps_unit T s) (lxe T p) N) _ = _; rw [e1]; show ps_b (ps_need T 41 p' N') _ = _; rw [e2]; rfl) F' ξ' σ' v q1 q2 q3 q4 q5 q6 q7
              · subst h0
                exact (hE 3 _ N rfl).pre pf.refl XD.refl hTD hR (by omega)
            · rw [if_neg h240]
              rw [if_neg h240] at hE
              exact z1 (x_o h.1.1 r1 (by decide) (h.bad (d := d + 9) (x := x - 20) (hE 1 _ N rfl) (hcr.le (by omega))))
    · -- a name
      have c2' : lxt T p = 2 := t2.mp c2
      rw [if_pos c2'] at hQ hE
      refine x_new (c := 13) (j := 1) (m := 600 * (n + 1 - p) + (x - 1)) h.1.1 hTD ok_13 (by decide) (hcr.le (by omega)) ⟨by omega, by omega⟩ rfl fun D2 ξ2 σ2 i xd td ni ri _ H2 s2 i2 rr2 c2 hF2 => ?_
      have h2 : XI G A T n p N F D2 ξ2 σ2 := h.up H2 FE.refl xd td (h.s0 s2)
      have s21 := s2 1 r1.1
      refine x_gr H2 (xd _ _ _ r1) (by decide) ((congrFun s21.2.1 7).trans (b7 h)) (x_o H2 (xd _ _ _ r1) (by decide) (X_takesName (d := d + 1) h2 hG c2 (fun k p' N' e1 hk F3 ξ3 σ3 g1 g2 g3 g4 g5 g6 => ?_) fun kd q N' e1 => (hE kd q N' (by rw [e1]; rfl)).pre ⟨FE.refl, fun q hq _ => s2 q hq, fun q _ => congrFun (s2 0 hR.1.1).1 q, (s2 0 hR.1.1).2.1⟩ xd hTD hR (by omega)))
      have nn : i ∉ [0, 1, 4, 6] := fun h9 => ni (by
        have : i = 0 ∨ i = 1 ∨ i = 4 ∨ i = 6 := by simpa using h9
        rcases this with e | e | e | e
        · rw [e]; exact hR.1.1
        · rw [e]; exact hR.2.1.1
        · rw [e]; exact hR.2.2.1.1
        · rw [e]; exact hR.2.2.2.1.1)
      refine W_X15_init_f (x_pr g1.1.1 ri (by decide) fun σ4 H4 e4 => W_X13_init_f (d := d + 8) (x_pr H4 ri (by decide) fun σ5 H5 e5 => x_p H5 ri (by decide) fun σ6 H6 e6 => ?_))
      obtain ⟨F', f1, f2, f3, f4, f5, f6⟩ := X_fin (g1.down xd hTD hR) xd ni ri (fun q hq => ((sR_sc (show q ≠ i from fun e => ni (e ▸ hq))).trans (sR_sc (show q ≠ i from fun e => ni (e ▸ hq)))).trans (sI_sc (show q ≠ i from fun e => ni (e ▸ hq)))) H6
      obtain ⟨f, q1, q2⟩ := xE_i (c := 13) (k := 1) (i := i) (by decide) (by decide) sI_s
      have pf2 : pf D F ξ F ξ2 := ⟨FE.refl, fun q hq _ => s2 q hq, fun q _ => congrFun (s2 0 hR.1.1).1 q, (s2 0 hR.1.1).2.1⟩
      exact hQ (Term.index k) p' N' (by rw [e1]; rfl) F' _ σ6 _ f3 ((pf2.trans (g2.less xd)).trans f4) ((f5.trans (g3.trans (congrFun s21.1 4))).trans h4) ((f6.trans g4).trans (congrFun s21.1 5)) g5 ((((g6.eq e4).eq e5).eq e6).le (by omega)) ⟨fun h => absurd h (by decide), f, f2.trans (congrArg some q1), q2, hk⟩
  · -- a number
    have c3 : lxt T p = 3 := t4.mp c4
    rw [if_pos c3] at hQ
    refine x_gi h.1.1 r1 (by decide) (tv c3) (x_o h.1.1 r1 (by decide) (h.next (d := d + 2) hG (by rw [c3]; decide) hcr fun F1 ξ1 σ1 g1 g2 g3 g4 g5 g6 => ?_))
    refine x_new (c := 12) (j := 1) (m := 600 * (n + 1 - lxe T p) + (x + 300)) g1.1.1 hTD ok_12 (by decide) (g6.le (by omega)) ⟨by omega, by omega⟩ rfl fun D2 ξ2 σ2 i xd td ni ri _ H2 s2 i2 rr2 c2 hF2 => ?_
    refine x_gr H2 (xd _ _ _ r1) (by decide) ((congrFun (s2 1 r1.1).2.1 7).trans (b7 g1)) ?_
    refine W_X14_init_f (x_pr H2 ri (by decide) fun σ4 H4 e4 => W_X13_init_f (d := d + 8) (x_pr H4 ri (by decide) fun σ5 H5 e5 => x_p H5 ri (by decide) fun σ6 H6 e6 => ?_))
    obtain ⟨F', f1, f2, f3, f4, f5, f6⟩ := X_fin g1 xd ni ri (fun q hq => (((s2 q hq).trans (sR_sc (show q ≠ i from fun e => ni (e ▸ hq)))).trans (sR_sc (show q ≠ i from fun e => ni (e ▸ hq)))).trans (sI_sc (show q ≠ i from fun e => ni (e ▸ hq)))) H6
    obtain ⟨f, q1, q2⟩ := xE_i (c := 12) (k := 1) (i := i) (by decide) (by decide) sI_s
    exact hQ (Term.int (lxv T p)) (lxe T p) N rfl F' _ σ6 _ f3 (g2.trans f4) ((f5.trans g3).trans h4) (f6.trans g4) g5 (((c2.eq e4).eq e5).eq e6) ⟨fun h => absurd h (by decide), f, f2.trans (congrArg some q1), q2⟩
end
