set_option maxRecDepth 100000
/-- what is asked of a statement's or block's reading -/
def StQ (G : am_G) (A : Nat → Nat) (T : Nat → Int32) (n : Nat) (F : am_H) (D : xs_D) (ξ : xs_X) (p : Nat) (ns : Int32) (s x : Nat) (P : am_H → Term → Nat → Prop) (res : ps_B) (Q : Option Nat → am_S → Prop) : Prop := ∀ t s' p' N', res = ps_ok (t, s') p' N' → ∀ F' ξ' σ' v, XI G A T n p' N' F' D ξ' σ' → pf D F ξ F' ξ' → xI ξ' 1 4 = ns → xI ξ' 1 5 = nI s' → s' ≤ 60 → s ≤ s' → p < p' → cr G (600 * (n + 1 - p') + x) σ' → P F' t v → Q (some v) σ'
section
variable {G : am_G} {A : Nat → Nat} {T : Nat → Int32} {n d p : Nat} {N : ps_N} {F : am_H} {D : xs_D} {ξ : xs_X} {σ : am_S}
/-- only what is not of the roles D changes -/
theorem XI.own {D2 : xs_D} {ξ1 : xs_X} {σ1 : am_S} (h : XI G A T n p N F D2 ξ σ) (hR : RR A D) (H : XS F D2 ξ1 σ1) (hs : ∀ q, D.2.2 q → sc ξ ξ1 q) : XI G A T n p N F D2 ξ1 σ1 := h.up H FE.refl XD.refl h.1.2.1 fun j hj => hs j (by
  rcases hj with e | e | e | e
  · rw [e]; exact hR.1.1
  · rw [e]; exact hR.2.1.1
  · rw [e]; exact hR.2.2.2.1.1
  · rw [e]; exact hR.2.2.2.2.1)
theorem pf.own (hR : RR A D) {F : am_H} {ξ ξ1 : xs_X} (hs : ∀ q, D.2.2 q → sc ξ ξ1 q) : pf D F ξ F ξ1 := ⟨FE.refl, fun q hq _ => hs q hq, fun q _ => congrFun (hs 0 hR.1.1).1 q, (hs 0 hR.1.1).2.1⟩
/-- a block -/
theorem X_block (hG : GK G) {ns : Int32} {x1 : Int32} {st : Nat → ps_N → Nat → ps_B} (hs : XStm G A T n (fun σ Q E => W_X4_statement G (d + 10) (A 1) x1 σ Q E) ns 1 isSt st) : XStm G A T n (fun σ Q E => W_X4_block G (d + 11) (A 1) x1 σ Q E) ns 0 (fun F t v => isBk F v (xL F t)) (ps_blk T st) := fun p N F D ξ σ s x Q E h h4 h5 hs60 hx hcr hQ hE => by
  have hTD := h.1.2.1
  have hR := h.1.2.2.1
  refine W_X4_block_f (x_o h.1.1 hR.2.1 (by decide) (X_needs (d := d) (x := x) h hG (c := 123) (by decide) hcr (fun e2 F1 ξ1 σ1 g1 g2 g3 g4 g5 g6 => ?_) fun kd q N3 e2 => (hE kd q N3 (by show ps_b (ps_need T 123 p N) _ = _; rw [e2]; rfl)).pre pf.refl XD.refl hTD hR (by omega)))
  have hb : ps_blk T st p N s = ps_stmts T st 1001 (lxe T p) N s := by unfold ps_blk; rw [e2]; rfl
  refine X_newO g1 (j := 1) (m := 600 * (n + 1 - lxe T p) + (x + 589)) ok_10 (by decide) (g6.le (by omega)) ⟨by omega, by omega⟩ rfl fun D2 ξ2 σ2 i xd ni nn ri h2 p2 s2 e7 zz1 zz2 c2 => ?_
  refine x_gr h2.1.1 h2.1.2.2.1.2.1 (by decide) e7 (X_blockInit (d := d + 9) (m := 600 * (n + 1 - lxe T p) + (x + 588)) h2.1.1 h2.1.2.1 ri (by rw [zz1]) ⟨A 0, rfl, h2.1.2.2.1.1⟩ (c2.le (by omega)) fun D3 ξ3 σ3 jo oa xd3 td3 nj hc3 H3 s3 c3 => ?_)
  have s3D : ∀ q, D.2.2 q → sc ξ2 ξ3 q := fun q hq => s3 q (xd.has hq) fun e => ni (e ▸ hq)
  have h3 : XI G A T n (lxe T p) N F1 D3 ξ3 σ3 := h2.up H3 FE.refl xd3 td3 fun j hj => s3D j (by
    rcases hj with e | e | e | e
    · rw [e]; exact hR.1.1
    · rw [e]; exact hR.2.1.1
    · rw [e]; exact hR.2.2.2.1.1
    · rw [e]; exact hR.2.2.2.2.1)
  have s31 := (s2 1 hR.2.1.1).trans (s3D 1 hR.2.1.1)
  refine X_block_l (p0 := p) (x := x + 588) (F0 := F) (ξ0 := ξ) (D := D) hG hs hTD hR ni (by omega) 1001 (lxe T p) N F1 D3 ξ3 σ3 s jo oa 0 2 (by omega) g5 h3 (xd.trans xd3) (fun hq => nj (xd.has hq)) hc3 (by omega) hs60 (fun q hq => absurd hq (by omega)) ((g2.trans p2).trans (pf.own hR s3D)) ((congrFun s31.1 4).trans (g3.trans h4)) ((congrFun s31.1 5).trans (g4.trans h5)) c3 (fun b s' p' N' e3 F' D' ξ' σ' jo2 oa2 k' l2 j1 j0 j2 j3 j4 j5 j6 j7 j8 j9 j10 j11 j12 j13 j14 => ?_) fun kd q N' e3 => (hE kd q N' (hb.trans e3)).pre pf.refl XD.refl hTD hR (by omega)
  have hl : l2 < 65536 := by
    have := j4.2.2.2.2.2.2.2.2.1
    omega
  obtain ⟨F9, f1, f2, f3⟩ := X_blockDone j1.1.1 j2 j4 ni j3 hl j14
  exact hQ b s' p' N' (hb.trans e3) F9 ξ' σ' _ ((j1.down j2 hTD hR).up f2 f1 XD.refl hTD fun j _ => sc.refl) (j6.trans ⟨f1, fun _ _ _ => sc.refl, fun _ _ => rfl, rfl⟩) j7 j8 j9 (by omega) j11 (j12.le (by omega)) f3
/-- the end of an if -/
theorem X_choose_end {D2 : xs_D} {ξ9 : xs_X} {F9 : am_H} {σ9 : am_S} {i a u s2 s x p' : Nat} {N' : ps_N} {e y z : Term} {v vy : Nat} {o3 : Option Nat} (hu : u + 1 ≤ 12) (hTD : TD D) (hR : RR A D) (xd : XD D D2) (ni : ¬ D.2.2 i) (ri : rl D2 i a 11) (h9 : XI G A T n p' N' F9 D2 ξ9 σ9) (hp : pf D F ξ F9 ξ9) (h1 : xR ξ9 i 1 = some v) (h2 : xR ξ9 i 2 = some vy) (h3 : xR ξ9 i 3 = o3) (h4 : xI ξ9 1 4 = nI (12 - u)) (h5 : xI ξ9 1 5 = nI s2) (hs2 : s2 ≤ 60) (hss : s ≤ s2) (hpp : p < p') (hcr : cr G (600 * (n + 1 - p') + x) σ9) (he : xE F9 e v) (hy : isBk F9 vy (xL F9 y)) (hz : (o3 = none ∧ z = .thrown) ∨ ∃ rn, o3 = some rn ∧ isBk F9 rn (xL F9 z)) {Q : Option Nat → am_S → Prop} (hQ : StQ G A T n F D ξ p (nI (12 - (u + 1))) s x isSt (ps_ok (Term.sub e (Term.sub y z), s2) p' N') Q) : f_gi σ9 (some (A 1)) [4] 4 (fun v25 => f_p σ9 (some (A 1)) [4] 4 (.int (v25 - 1)) (fun σ26 => Q (some a) σ26)) := by
  obtain ⟨F', f1, f2, f3, f4, f5, f6⟩ := X_fin (h9.down xd hTD hR) xd ni ri (fun q _ => sc.refl) h9.1.1
  have q1 := f3.1.2.2.1.2.1
  refine x_gi f3.1.1 q1 (by decide) h4 (x_p f3.1.1 q1 (by decide) fun σ2 H2 e2 => ?_)
  have e4 : nI (12 - u) - 1 = nI (12 - (u + 1)) := by
    rw [show (1 : Int32) = nI 1 from rfl, pk_sub (by omega)]
    congr 1
  rw [e4] at H2
  have hI : XI G A T n p' N' F' D (xs_sI ξ9 1 4 (nI (12 - (u + 1)))) σ2 := ⟨f3.1.sI1 H2, f3.2.1, f3.2.2.1.up FE.refl (fun k hk => sI_o (by omega)) rfl, f3.2.2.2⟩
  have pf2 : pf D F ξ F' (xs_sI ξ9 1 4 (nI (12 - (u + 1)))) := (hp.trans f4).trans ⟨FE.refl, fun q hq h9 => sI_sc fun e => h9 (by rw [e]; decide), fun k _ => congrFun (sI_sc (by decide)).1 k, (sI_sc (by decide)).2.1⟩
  obtain ⟨f, w1, w2, w3⟩ := xE_f (c := 11) (i := i) (ξ := ξ9) (by decide)
  refine hQ _ s2 p' N' rfl F' _ σ2 a hI pf2 sI_s ((sI_o (by decide)).trans h5) hs2 hss hpp (hcr.eq e2) ⟨f, v, vy, f2.trans (congrArg some w1), (w3 1 (by decide)).trans (congrArg va_rf h1), xT.mono f1 e _ _ _ _ _ he, (w3 2 (by decide)).trans (congrArg va_rf h2), hy.mono f1 fun o j k => xL.mono f1 y o j k, ?_⟩
  rcases hz with ⟨e1, e2⟩ | ⟨rn, e1, e2⟩
  · exact Or.inl ⟨(w3 3 (by decide)).trans (congrArg va_rf (h3.trans e1)), e2⟩
  · exact Or.inr ⟨rn, (w3 3 (by decide)).trans (congrArg va_rf (h3.trans e1)), e2.mono f1 fun o j k => xL.mono f1 z o j k⟩
/-- if -/
theorem X_chooses (hG : GK G) {r s x : Nat} (hr : r ≤ 12) (hd : 4 * r ≤ d + 4) (ih : ∀ u, r = u + 1 → XStm G A T n (fun σ Q E => W_X4_statement G (d + 13) (A 1) 0 σ Q E) (nI (12 - u)) 1 isSt (ps_stmt T u false)) (h : XI G A T n p N F D ξ σ) (h4 : xI ξ 1 4 = nI (12 - r)) (h5 : xI ξ 1 5 = nI s) (hs60 : s ≤ 60) (h0 : ¬ lxt T p = 0) (hx : 60 ≤ x) (hcr : cr G (600 * (n + 1 - p) + x) σ) {Q : Option Nat → am_S → Prop} {E : Nat → am_S → Prop}
    (hQ : ∀ u, r = u + 1 → StQ G A T n F D ξ p (nI (12 - r)) s (x + 250) isSt (ps_b (ps_exp T (ps_unit T u) (lxe T p) N) fun e p1 N1 => ps_b (ps_blk T (ps_stmt T u false) p1 N1 s) fun y p2 N2 => if lxt T p2 = 113 then ps_b (ps_blk T (ps_stmt T u false) (lxe T p2) N2 y.2) fun n p3 N3 => ps_ok (Term.sub e (Term.sub y.1 n.1), n.2) p3 N3 else ps_ok (Term.sub e (Term.sub y.1 Term.thrown), y.2) p2 N2) Q)
    (hE : ∀ u, r = u + 1 → XFn G A T n F D ξ (x - 50) (ps_b (ps_exp T (ps_unit T u) (lxe T p) N) fun e p1 N1 => ps_b (ps_blk T (ps_stmt T u false) p1 N1 s) fun y p2 N2 => if lxt T p2 = 113 then ps_b (ps_blk T (ps_stmt T u false) (lxe T p2) N2 y.2) fun n p3 N3 => ps_ok (Term.sub e (Term.sub y.1 n.1), n.2) p3 N3 else ps_ok (Term.sub e (Term.sub y.1 Term.thrown), y.2) p2 N2) E)
    (hE0 : r = 0 → XFt G A T n F D ξ (x - 50) E 3 (lxa T p) N) : W_X4_chooses G (d + 15) (A 1) σ Q E := by
  have hTD := h.1.2.1
  have hR := h.1.2.2.1
  refine W_X4_chooses_f (x_o h.1.1 hR.2.1 (by decide) (X_opens (d := d + 5) (x := x) h hG hr h4 h0 hcr (fun u hru F1 ξ1 σ1 g1 g2 g3 g4 g5 g6 => ?_) fun e0 => (hE0 e0).pre pf.refl XD.refl hTD hR (by omega)))
  have ihu := ih u hru
  replace hQ := hQ u hru
  replace hE := hE u hru
  subst hru
  refine X_newO g1 (j := 2) (m := 600 * (n + 1 - lxe T p) + (x + 588)) ok_11 (by decide) (g6.le (by omega)) ⟨by omega, by omega⟩ rfl fun D2 ξ2 σ2 i xd ni nn ri h2 p2 s2 e7 zz1 zz2 c2 => ?_
  have s21 := s2 1 hR.2.1.1
  have hw : ∀ (ξ : xs_X) (k : Nat) (v : Option Nat) (q : Nat), D.2.2 q → sc ξ (xs_sR ξ i k v) q := fun ξ k v q hq => sR_sc (show q ≠ i from fun e => ni (e ▸ hq))
  refine x_gr h2.1.1 h2.1.2.2.1.2.1 (by decide) e7 (x_o h2.1.1 h2.1.2.2.1.2.1 (by decide) (X_expr hG (show u ≤ 12 by omega) (show 4 * u ≤ d by omega) (lxe T p) N F1 D2 ξ2 σ2 (x + 588) _ E h2 ((congrFun s21.1 4).trans g3) (by omega) c2 (fun e p1 N1 e1 F3 ξ3 σ3 v k1 k2 k3 k4 k5 k6 k7 => ?_) fun kd q N' e1 => (hE kd q N' (by rw [e1]; rfl)).pre (g2.trans p2) xd hTD hR (by omega)))
  rw [e1] at hQ hE
  have hQ1 : StQ G A T n F D ξ p (nI (12 - (u + 1))) s (x + 250) isSt (ps_b (ps_blk T (ps_stmt T u false) p1 N1 s) fun y p2 N2 => if lxt T p2 = 113 then ps_b (ps_blk T (ps_stmt T u false) (lxe T p2) N2 y.2) fun n p3 N3 => ps_ok (Term.sub e (Term.sub y.1 n.1), n.2) p3 N3 else ps_ok (Term.sub e (Term.sub y.1 Term.thrown), y.2) p2 N2) Q := hQ
  have hE1 : XFn G A T n F D ξ (x - 50) (ps_b (ps_blk T (ps_stmt T u false) p1 N1 s) fun y p2 N2 => if lxt T p2 = 113 then ps_b (ps_blk T (ps_stmt T u false) (lxe T p2) N2 y.2) fun n p3 N3 => ps_ok (Term.sub e (Term.sub y.1 n.1), n.2) p3 N3 else ps_ok (Term.sub e (Term.sub y.1 Term.thrown), y.2) p2 N2) E := hE
  refine W_X12_init_f (d := d + 13) (x_pr k1.1.1 ri (by decide) fun σ4 H4 e4 => W_X11_init_f (d := d + 12) (x_pr H4 ri (by decide) fun σ5 H5 e5 => x_pr H5 ri (by decide) fun σ6 H6 e6 => ?_))
  have s6 : ∀ q, D.2.2 q → sc ξ3 (xs_sR (xs_sR (xs_sR ξ3 i 4 (some (A 0))) i 0 (some (A 0))) i 1 (some v)) q := fun q hq => ((hw _ _ _ q hq).trans (hw _ _ _ q hq)).trans (hw _ _ _ q hq)
  have h6 := k1.own hR H6 s6
  have i6 : xR (xs_sR (xs_sR (xs_sR ξ3 i 4 (some (A 0))) i 0 (some (A 0))) i 1 (some v)) i 1 = some v := sR_s
  have i63 : xR (xs_sR (xs_sR (xs_sR ξ3 i 4 (some (A 0))) i 0 (some (A 0))) i 1 (some v)) i 3 = none := by
    rw [sR_o (by decide), sR_o (by decide), sR_o (by decide), (k2.2.1 i ri.1 nn).2.1, zz2]
  have p6 := ((g2.trans p2).trans (k2.less xd)).trans (pf.own hR s6)
  have s61 := s6 1 hR.2.1.1
  have hb := X_block (d := d + 3) hG ihu
  have n4 := (congrFun s61.1 4).trans k3
  have n5 := (congrFun s61.1 5).trans (k4.trans ((congrFun s21.1 5).trans (g4.trans h5)))
  generalize hξ6 : xs_sR (xs_sR (xs_sR ξ3 i 4 (some (A 0))) i 0 (some (A 0))) i 1 (some v) = ξ6 at *
  refine x_o h6.1.1 h6.1.2.2.1.2.1 (by decide) (hb p1 N1 F3 D2 ξ6 σ6 s (x + 888) _ E h6 n4 n5 hs60 (by omega) ((((k6.eq e4).eq e5).eq e6).le (by omega)) (fun y sy p3 N3 e3 F7 ξ7 σ7 vy a1 a2 a3 a4 a5 a6 a7 a8 a9 => ?_) fun kd q N' e3 => (hE1 kd q N' (by rw [e3]; rfl)).pre p6 xd hTD hR (by omega))
  rw [e3] at hQ1 hE1
  have hQ2 : StQ G A T n F D ξ p (nI (12 - (u + 1))) s (x + 250) isSt (if lxt T p3 = 113 then ps_b (ps_blk T (ps_stmt T u false) (lxe T p3) N3 sy) fun n p3 N3 => ps_ok (Term.sub e (Term.sub y n.1), n.2) p3 N3 else ps_ok (Term.sub e (Term.sub y Term.thrown), sy) p3 N3) Q := hQ1
  have hE2 : XFn G A T n F D ξ (x - 50) (if lxt T p3 = 113 then ps_b (ps_blk T (ps_stmt T u false) (lxe T p3) N3 sy) fun n p3 N3 => ps_ok (Term.sub e (Term.sub y n.1), n.2) p3 N3 else ps_ok (Term.sub e (Term.sub y Term.thrown), sy) p3 N3) E := hE1
  refine x_pr a1.1.1 ri (by decide) fun σ8 H8 e8 => ?_
  have h8 := a1.own hR H8 (hw ξ7 2 (some vy))
  have p8 := (p6.trans (a2.less xd)).trans (pf.own hR (hw ξ7 2 (some vy)))
  have s81 := hw ξ7 2 (some vy) 1 hR.2.1.1
  have si7 := a2.2.1 i ri.1 nn
  have i81 : xR (xs_sR ξ7 i 2 (some vy)) i 1 = some v := (sR_o (by decide)).trans ((congrFun si7.2.1 1).trans i6)
  have i82 : xR (xs_sR ξ7 i 2 (some vy)) i 2 = some vy := sR_s
  have i83 : xR (xs_sR ξ7 i 2 (some vy)) i 3 = none := (sR_o (by decide)).trans ((congrFun si7.2.1 3).trans i63)
  have m4 : xI (xs_sR ξ7 i 2 (some vy)) 1 4 = nI (12 - u) := a3
  have m5 : xI (xs_sR ξ7 i 2 (some vy)) 1 5 = nI sy := a4
  have he8 : xE F7 e v := xT.mono a2.1 e _ _ _ _ _ k7
  generalize hξ8 : xs_sR ξ7 i 2 (some vy) = ξ8 at *
  refine x_o h8.1.1 h8.1.2.2.1.2.1 (by decide) (X_takesWord (d := d + 5) (k := 13) (x := x + 1138) h8 hG (by decide) ((a8.eq e8).le (by omega)) (fun e13 F9 ξ9 σ9 b1 b2 b3 b4 b5 b6 => y2 ?_) fun n13 => z2 ?_)
  · have e113 : lxt T p3 = 113 := e13
    rw [if_pos e113] at hQ2 hE2
    have sib := b2.2.1 i ri.1 nn
    refine x_o b1.1.1 b1.1.2.2.1.2.1 (by decide) (hb (lxe T p3) N3 F9 D2 ξ9 σ9 sy (x + 1728) _ E b1 (b3.trans m4) (b4.trans m5) a5 (by omega) (b6.le (by omega)) (fun z sz p4 N4 e4 F10 ξ10 σ10 vz c1 c2 c3 c4 c5 c6 c7 c8 c9 => ?_) fun kd q N' e4 => (hE2 kd q N' (by rw [e4]; rfl)).pre (p8.trans (b2.less xd)) xd hTD hR (by omega))
    rw [e4] at hQ2
    refine x_pr c1.1.1 ri (by decide) fun σ11 H11 e11 => ?_
    have sic := c2.2.1 i ri.1 nn
    refine X_choose_end (x := x + 250) (y := y) (z := z) (e := e) (s2 := sz) (o3 := some vz) hr hTD hR xd ni ri (c1.own hR H11 (hw ξ10 3 (some vz))) (((p8.trans (b2.less xd)).trans (c2.less xd)).trans (pf.own hR (hw ξ10 3 (some vz)))) ((sR_o (by decide)).trans ((congrFun sic.2.1 1).trans ((congrFun sib.2.1 1).trans i81))) ((sR_o (by decide)).trans ((congrFun sic.2.1 2).trans ((congrFun sib.2.1 2).trans i82))) sR_s c3 c4 c5 (by omega) (by omega) ((c8.eq e11).le (by omega)) (xT.mono (b2.1.trans c2.1) e _ _ _ _ _ he8) (a9.mono (b2.1.trans c2.1) fun o j k => xL.mono (b2.1.trans c2.1) y o j k) (Or.inr ⟨vz, rfl, c9⟩) hQ2
  · have n113 : ¬ lxt T p3 = 113 := n13
    rw [if_neg n113] at hQ2
    exact X_choose_end (x := x + 250) (y := y) (z := .thrown) (e := e) (s2 := sy) (o3 := none) hr hTD hR xd ni ri h8 p8 i81 i82 i83 m4 m5 a5 (by omega) (by omega) ((a8.eq e8).le (by omega)) he8 a9 (Or.inl ⟨rfl, rfl⟩) hQ2
end
