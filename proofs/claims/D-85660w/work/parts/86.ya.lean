set_option maxRecDepth 100000
theorem xE_f {c i : Nat} {ξ : xs_X} (hc : c < 50) : ∃ f, xs_E c i ξ = .inr (c, f) ∧ (∀ k, xs_rf c k = false → f k = .int (xI ξ i k)) ∧ ∀ k, xs_rf c k = true → f k = va_rf (xR ξ i k) := ⟨_, by unfold xs_E; rw [if_pos hc], fun k h => by rw [if_neg (by rw [h]; decide)], fun k h => if_pos h⟩
section
variable {G : am_G} {A : Nat → Nat} {T : Nat → Int32} {n d p : Nat} {N : ps_N} {F : am_H} {D : xs_D} {ξ : xs_X} {σ : am_S}
/-- a call's object, with two names -/
theorem X_cal21 (h : XI G A T n p N F D ξ σ) {i a : Nat} {D2 : xs_D} {y1 y2 : Int32} (hTD : TD D) (hR : RR A D) (xd : XD D D2) (ni : ¬ D.2.2 i) (ri : rl D2 i a 19) (h2 : XI G A T n p N F D2 ξ σ) {Q : am_S → Prop} (hQ : ∀ F' ξ' σ' f, XI G A T n p N F' D ξ' σ' → pf D F ξ F' ξ' → xI ξ' 1 4 = xI ξ 1 4 → xI ξ' 1 5 = xI ξ 1 5 → σ'.2 = σ.2 → F' a = some (.inr (19, f)) → f 1 = .int y1 → f 2 = .int y2 → Q σ') : W_X21_init G (d + 2) a (some (A 0)) y1 y2 σ Q := by
  refine W_X21_init_f (d := d + 1) (x_pr h2.1.1 ri (by decide) fun σ4 H4 e4 => W_X11_init_f (d := d) (x_pr H4 ri (by decide) fun σ5 H5 e5 => x_p H5 ri (by decide) fun σ6 H6 e6 => x_p H6 ri (by decide) fun σ7 H7 e7 => ?_))
  obtain ⟨F', f1, f2, f3, f4, f5, f6⟩ := X_fin (h2.down xd hTD hR) xd ni ri (fun q hq => (((sR_sc (show q ≠ i from fun e => ni (e ▸ hq))).trans (sR_sc (show q ≠ i from fun e => ni (e ▸ hq)))).trans (sI_sc (show q ≠ i from fun e => ni (e ▸ hq)))).trans (sI_sc (show q ≠ i from fun e => ni (e ▸ hq)))) H7 (tf_of (by decide) fun k hk => by
    have hk3 : k = 3 := by simpa [tfs] using hk
    subst hk3
    exact (sR_o (by decide)).trans sR_s)
  obtain ⟨f, q1, q2, q3⟩ := xE_f (c := 19) (i := i) (ξ := xs_sI (xs_sI (xs_sR (xs_sR ξ i 3 (some (A 0))) i 0 (some (A 0))) i 1 y1) i 2 y2) (by decide)
  refine hQ F' _ σ7 f f3 f4 f5 f6 (((e7.trans e6).trans e5).trans e4) (f2.trans (congrArg some q1)) ((q2 1 (by decide)).trans ?_) ((q2 2 (by decide)).trans ?_)
  · rw [sI_o (by decide), sI_s]
  · rw [sI_s]
/-- above -/
theorem X_above {x : Nat} (h : XI G A T n p N F D ξ σ) (hx : 1 ≤ x) (hcr : cr G (600 * (n + 1 - p) + x) σ) {Q : Option Nat → am_S → Prop} (hQ : PlQ G A T n F D ξ p (x - 1) isSt (ps_ok Term.null p N) Q) : f_new G σ 19 4 tyX21 (fun n59 σ60 => f_gr σ60 (some (A 1)) [4] 7 (fun v61 => W_X21_init G (d + 2) n59 v61 (-1) (-1) σ60 (fun σ63 => Q (some n59) σ63))) := by
  have hTD := h.1.2.1
  have hR := h.1.2.2.1
  refine X_newO h (j := 1) (m := 600 * (n + 1 - p) + (x - 1)) ok_19 (by decide) (hcr.le (by omega)) ⟨by omega, by omega⟩ rfl fun D2 ξ2 σ2 i xd ni nn ri h2 p2 s2 e7 z1 z2 c2 => ?_
  refine x_gr h2.1.1 h2.1.2.2.1.2.1 (by decide) e7 (X_cal21 (h2.down xd hTD hR) hTD hR xd ni ri h2 fun F' ξ' σ' f k1 k2 k3 k4 k5 k6 k7 k8 => ?_)
  exact hQ _ _ _ rfl F' ξ' σ' _ k1 (p2.trans k2) (k3.trans (congrFun (s2 1 hR.2.1.1).1 4)) (k4.trans (congrFun (s2 1 hR.2.1.1).1 5)) (Nat.le_refl _) (c2.eq k5) ⟨f, k6, k7, k8⟩
/-- rest -/
theorem X_rests {x : Nat} (h : XI G A T n p N F D ξ σ) (hx : 1 ≤ x) (hcr : cr G (600 * (n + 1 - p) + x) σ) {Q : Option Nat → am_S → Prop} (hQ : PlQ G A T n F D ξ p (x - 1) isSt (ps_ok Term.result p N) Q) : f_new G σ 20 2 tyX22 (fun n52 σ53 => f_gr σ53 (some (A 1)) [4] 7 (fun v54 => W_X22_init G (d + 2) n52 v54 σ53 (fun σ56 => Q (some n52) σ56))) := by
  have hTD := h.1.2.1
  have hR := h.1.2.2.1
  refine X_newO h (j := 1) (m := 600 * (n + 1 - p) + (x - 1)) ok_20 (by decide) (hcr.le (by omega)) ⟨by omega, by omega⟩ rfl fun D2 ξ2 σ2 i xd ni nn ri h2 p2 s2 e7 z1 z2 c2 => ?_
  refine x_gr h2.1.1 h2.1.2.2.1.2.1 (by decide) e7 (W_X22_init_f (d := d + 1) (x_pr h2.1.1 ri (by decide) fun σ4 H4 e4 => W_X11_init_f (d := d) (x_pr H4 ri (by decide) fun σ5 H5 e5 => ?_)))
  obtain ⟨F', f1, f2, f3, f4, f5, f6⟩ := X_fin (h2.down xd hTD hR) xd ni ri (fun q hq => ((sR_sc (show q ≠ i from fun e => ni (e ▸ hq))).trans (sR_sc (show q ≠ i from fun e => ni (e ▸ hq))))) H5
  obtain ⟨f, q1, q2, q3⟩ := xE_f (c := 20) (i := i) (ξ := xs_sR (xs_sR ξ2 i 1 (some (A 0))) i 0 (some (A 0))) (by decide)
  exact hQ _ _ _ rfl F' _ σ5 _ f3 (p2.trans f4) (f5.trans (congrFun (s2 1 hR.2.1.1).1 4)) (f6.trans (congrFun (s2 1 hR.2.1.1).1 5)) (Nat.le_refl _) ((c2.eq e4).eq e5) ⟨f, f2.trans (congrArg some q1)⟩
/-- do -/
theorem X_doing {x : Nat} (hG : GK G) (h : XI G A T n p N F D ξ σ) (hx : 30 ≤ x) (hcr : cr G (600 * (n + 1 - p) + x) σ) {Q : Option Nat → am_S → Prop} {E : Nat → am_S → Prop} (hQ : PlQ G A T n F D ξ p x isSt (ps_b (ps_name T p N) fun a p1 N1 => ps_ok (Term.arg a) p1 N1) Q) (hE : XFn G A T n F D ξ (x - 21) (ps_b (ps_name T p N) fun a p1 N1 => ps_ok (Term.arg a) p1 N1) E) : f_new G σ 19 4 tyX21 (fun n41 σ42 => f_gr σ42 (some (A 1)) [4] 7 (fun v43 => f_o σ42 (some (A 1)) [4] (fun b => W_X4_takesName G (d + 9) b σ42 (fun v44 σ45 => W_X21_init G (d + 9) n41 v43 (-1) v44 σ45 (fun σ49 => Q (some n41) σ49)) E))) := by
  have hTD := h.1.2.1
  have hR := h.1.2.2.1
  refine X_newO h (j := 1) (m := 600 * (n + 1 - p) + (x - 1)) ok_19 (by decide) (hcr.le (by omega)) ⟨by omega, by omega⟩ rfl fun D2 ξ2 σ2 i xd ni nn ri h2 p2 s2 e7 z1 z2 c2 => ?_
  refine x_gr h2.1.1 h2.1.2.2.1.2.1 (by decide) e7 (x_o h2.1.1 h2.1.2.2.1.2.1 (by decide) (X_takesName (d := d) (x := x - 1) h2 hG c2 (fun a p' N' e1 ha F3 ξ3 σ3 k1 k2 k3 k4 k5 k6 => ?_) fun kd q N' e1 => (hE kd q N' (by rw [e1]; rfl)).pre p2 xd hTD hR (by omega)))
  rw [e1] at hQ
  refine X_cal21 (k1.down xd hTD hR) hTD hR xd ni ri k1 fun F' ξ' σ' f j1 j2 j3 j4 j5 j6 j7 j8 => ?_
  exact hQ _ _ _ rfl F' ξ' σ' _ j1 ((p2.trans (k2.less xd)).trans j2) ((j3.trans k3).trans (congrFun (s2 1 hR.2.1.1).1 4)) ((j4.trans k4).trans (congrFun (s2 1 hR.2.1.1).1 5)) (by omega) ((k6.eq j5).le (by omega)) ⟨f, j6, j7, j8, ha⟩
/-- send -/
theorem X_sending {x : Nat} (hG : GK G) (h : XI G A T n p N F D ξ σ) (hx : 30 ≤ x) (hcr : cr G (600 * (n + 1 - p) + x) σ) {Q : Option Nat → am_S → Prop} {E : Nat → am_S → Prop} (hQ : PlQ G A T n F D ξ p x isSt (ps_b (ps_name T p N) fun l p1 N1 => ps_b (ps_name T p1 N1) fun a p2 N2 => ps_ok (Term.mul (Term.index l) (Term.index a)) p2 N2) Q) (hE : XFn G A T n F D ξ (x - 21) (ps_b (ps_name T p N) fun l p1 N1 => ps_b (ps_name T p1 N1) fun a p2 N2 => ps_ok (Term.mul (Term.index l) (Term.index a)) p2 N2) E) : W_X4_takesName G (d + 9) (A 1) σ (fun v26 σ27 => f_new G σ27 19 4 tyX21 (fun n30 σ31 => f_gr σ31 (some (A 1)) [4] 7 (fun v32 => f_o σ31 (some (A 1)) [4] (fun b => W_X4_takesName G (d + 9) b σ31 (fun v33 σ34 => W_X21_init G (d + 9) n30 v32 v26 v33 σ34 (fun σ38 => Q (some n30) σ38)) E)))) E := by
  have hTD := h.1.2.1
  have hR := h.1.2.2.1
  refine X_takesName (d := d) (x := x) h hG hcr (fun l p1 N1 e1 hl F1 ξ1 σ1 g1 g2 g3 g4 g5 g6 => ?_) fun kd q N' e1 => (hE kd q N' (by rw [e1]; rfl)).pre pf.refl XD.refl hTD hR (by omega)
  rw [e1] at hQ hE
  have hE1 : XFn G A T n F D ξ (x - 21) (ps_b (ps_name T p1 N1) fun a p2 N2 => ps_ok (Term.mul (Term.index l) (Term.index a)) p2 N2) E := hE
  have hQ1 : PlQ G A T n F D ξ p x isSt (ps_b (ps_name T p1 N1) fun a p2 N2 => ps_ok (Term.mul (Term.index l) (Term.index a)) p2 N2) Q := hQ
  refine X_newO g1 (j := 1) (m := 600 * (n + 1 - p1) + (x + 589)) ok_19 (by decide) (g6.le (by omega)) ⟨by omega, by omega⟩ rfl fun D2 ξ2 σ2 i xd ni nn ri h2 p2 s2 e7 z1 z2 c2 => ?_
  refine x_gr h2.1.1 h2.1.2.2.1.2.1 (by decide) e7 (x_o h2.1.1 h2.1.2.2.1.2.1 (by decide) (X_takesName (d := d) (x := x + 589) h2 hG c2 (fun a p' N' e2 ha F3 ξ3 σ3 k1 k2 k3 k4 k5 k6 => ?_) fun kd q N' e2 => (hE1 kd q N' (by rw [e2]; rfl)).pre (g2.trans p2) xd hTD hR (by omega)))
  rw [e2] at hQ1
  refine X_cal21 (k1.down xd hTD hR) hTD hR xd ni ri k1 fun F' ξ' σ' f j1 j2 j3 j4 j5 j6 j7 j8 => ?_
  exact hQ1 _ _ _ rfl F' ξ' σ' _ j1 (((g2.trans p2).trans (k2.less xd)).trans j2) (((j3.trans k3).trans (congrFun (s2 1 hR.2.1.1).1 4)).trans g3) (((j4.trans k4).trans (congrFun (s2 1 hR.2.1.1).1 5)).trans g4) (by omega) ((k6.eq j5).le (by omega)) ⟨f, j6, j7, hl, j8, ha⟩
/-- set -/
theorem X_sets {r x : Nat} (hG : GK G) (hr : r ≤ 12) (hd : 4 * r ≤ d) (h : XI G A T n p N F D ξ σ) (h4 : xI ξ 1 4 = nI (12 - r)) (hx : 30 ≤ x) (hcr : cr G (600 * (n + 1 - p) + x) σ) {Q : Option Nat → am_S → Prop} {E : Nat → am_S → Prop} (hQ : PlQ G A T n F D ξ p x isSt (ps_b (ps_name T p N) fun k p1 N1 => ps_b (ps_need T 61 p1 N1) fun _ p2 N2 => ps_b (ps_exp T (ps_unit T r) p2 N2) fun e p3 N3 => ps_ok (Term.elem (Term.index k) e) p3 N3) Q) (hE : XFn G A T n F D ξ (x - 21) (ps_b (ps_name T p N) fun k p1 N1 => ps_b (ps_need T 61 p1 N1) fun _ p2 N2 => ps_b (ps_exp T (ps_unit T r) p2 N2) fun e p3 N3 => ps_ok (Term.elem (Term.index k) e) p3 N3) E) : W_X4_takesName G (d + 14) (A 1) σ (fun v88 σ89 => f_o σ89 (some (A 1)) [4] (fun b => W_X4_needs G (d + 14) b 61 σ89 (fun σ93 => f_new G σ93 17 4 tyX19 (fun n96 σ97 => f_gr σ97 (some (A 1)) [4] 7 (fun v98 => f_o σ97 (some (A 1)) [4] (fun b => W_X4_worth G (d + 14) b σ97 (fun v99 σ100 => W_X19_init G (d + 14) n96 v98 v88 v99 σ100 (fun σ104 => Q (some n96) σ104)) E)))) E)) E := by
  have hTD := h.1.2.1
  have hR := h.1.2.2.1
  refine X_takesName (d := d + 5) (x := x) h hG hcr (fun k p1 N1 e1 hk F1 ξ1 σ1 g1 g2 g3 g4 g5 g6 => x_o g1.1.1 g1.1.2.2.1.2.1 (by decide) ?_) fun kd q N' e1 => (hE kd q N' (by rw [e1]; rfl)).pre pf.refl XD.refl hTD hR (by omega)
  rw [e1] at hQ hE
  have hE1 : XFn G A T n F D ξ (x - 21) (ps_b (ps_need T 61 p1 N1) fun _ p2 N2 => ps_b (ps_exp T (ps_unit T r) p2 N2) fun e p3 N3 => ps_ok (Term.elem (Term.index k) e) p3 N3) E := hE
  have hQ1 : PlQ G A T n F D ξ p x isSt (ps_b (ps_need T 61 p1 N1) fun _ p2 N2 => ps_b (ps_exp T (ps_unit T r) p2 N2) fun e p3 N3 => ps_ok (Term.elem (Term.index k) e) p3 N3) Q := hQ
  refine X_needs (d := d + 4) (x := x + 590) g1 hG (c := 61) (by decide) g6 (fun e2 F3 ξ3 σ3 j1 j2 j3 j4 j5 j6 => ?_) fun kd q N3 e2 => (hE1 kd q N3 (by rw [e2]; rfl)).pre g2 XD.refl hTD hR (by omega)
  rw [e2] at hQ1 hE1
  have hE2 : XFn G A T n F D ξ (x - 21) (ps_b (ps_exp T (ps_unit T r) (lxe T p1) N1) fun e p3 N3 => ps_ok (Term.elem (Term.index k) e) p3 N3) E := hE1
  have hQ2 : PlQ G A T n F D ξ p x isSt (ps_b (ps_exp T (ps_unit T r) (lxe T p1) N1) fun e p3 N3 => ps_ok (Term.elem (Term.index k) e) p3 N3) Q := hQ1
  refine X_newO j1 (j := 1) (m := 600 * (n + 1 - lxe T p1) + (x + 1179)) ok_17 (by decide) (j6.le (by omega)) ⟨by omega, by omega⟩ rfl fun D2 ξ2 σ2 i xd ni nn ri h2 p2 s2 e7 z1 z2 c2 => ?_
  have s21 := s2 1 hR.2.1.1
  refine x_gr h2.1.1 h2.1.2.2.1.2.1 (by decide) e7 (x_o h2.1.1 h2.1.2.2.1.2.1 (by decide) (X_expr hG hr hd (lxe T p1) N1 F3 D2 ξ2 σ2 (x + 1179) _ E h2 ((congrFun s21.1 4).trans ((j3.trans g3).trans h4)) (by omega) c2 (fun t p' N' e3 F4 ξ4 σ4 v k1 k2 k3 k4 k5 k6 k7 => ?_) fun kd q N' e3 => (hE2 kd q N' (by rw [e3]; rfl)).pre ((g2.trans j2).trans p2) xd hTD hR (by omega)))
  rw [e3] at hQ2
  refine W_X19_init_f (d := d + 13) (x_pr k1.1.1 ri (by decide) fun σ5 H5 e5 => W_X11_init_f (d := d + 12) (x_pr H5 ri (by decide) fun σ6 H6 e6 => x_p H6 ri (by decide) fun σ7 H7 e7 => x_pr H7 ri (by decide) fun σ8 H8 e8 => ?_))
  obtain ⟨F', f1, f2, f3, f4, f5, f6⟩ := X_fin (k1.down xd hTD hR) xd ni ri (fun q hq => (((sR_sc (show q ≠ i from fun e => ni (e ▸ hq))).trans (sR_sc (show q ≠ i from fun e => ni (e ▸ hq)))).trans (sI_sc (show q ≠ i from fun e => ni (e ▸ hq)))).trans (sR_sc (show q ≠ i from fun e => ni (e ▸ hq)))) H8
  obtain ⟨f, q1, q2, q3⟩ := xE_f (c := 17) (i := i) (ξ := xs_sR (xs_sI (xs_sR (xs_sR ξ4 i 3 (some (A 0))) i 0 (some (A 0))) i 1 (nI k)) i 2 (some v)) (by decide)
  refine hQ2 _ p' N' rfl F' _ σ8 _ f3 ((((g2.trans j2).trans p2).trans (k2.less xd)).trans f4) ((f5.trans k3).trans h4.symm) ((f6.trans (k4.trans (congrFun s21.1 5))).trans (j4.trans g4)) (by omega) (((((k6.eq e5).eq e6).eq e7).eq e8).le (by omega)) ⟨f, v, f2.trans (congrArg some q1), (q2 1 (by decide)).trans ?_, hk, (q3 2 (by decide)).trans ?_, xT.mono f1 t _ _ _ _ _ k7⟩
  · congr 1
    exact sI_s
  · rw [sR_s]
end
