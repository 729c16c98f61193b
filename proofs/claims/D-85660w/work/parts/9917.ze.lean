set_option maxRecDepth 100000
section
variable {G : am_G} {A : Nat → Nat} {T : Nat → Int32} {n d x p : Nat} {N : ps_N} {F : am_H} {D : xs_D} {ξ : xs_X} {σ : am_S} {E : Nat → am_S → Prop}
/-- what is asked of a thing's reading -/
def ThQ {α : Type} (G : am_G) (A : Nat → Nat) (T : Nat → Int32) (n : Nat) (F : am_H) (D : xs_D) (ξ : xs_X) (p x : Nat) (P : am_H → α → Nat → Prop) (res : ps_R α) (Q : Option Nat → am_S → Prop) : Prop := ∀ a p' N', res = ps_ok a p' N' → ∀ F' ξ' σ' v, XI G A T n p' N' F' D ξ' σ' → pf D F ξ F' ξ' → xI ξ' 1 4 = nI 0 → p < p' → cr G (600 * (n + 1 - p') + x) σ' → P F' a v → Q (some v) σ'
theorem ThQ.pre {α : Type} {P : am_H → α → Nat → Prop} {F1 : am_H} {ξ1 : xs_X} {p1 x1 x2 : Nat} {res : ps_R α} {Q : Option Nat → am_S → Prop} (h : ThQ G A T n F D ξ p x1 P res Q) (hp : pf D F ξ F1 ξ1) (hpp : p ≤ p1) (hx : x1 ≤ x2) : ThQ G A T n F1 D ξ1 p1 x2 P res Q := fun a p' N' hr F' ξ' σ' v g1 g2 g3 g4 g5 g6 => h a p' N' hr F' ξ' σ' v g1 (hp.trans g2) g3 (by omega) (g5.le (by omega)) g6
/-- an edit's object, behind its semicolon -/
theorem X_ed74 (hG : GK G) (h : XI G A T n p N F D ξ σ) (h4 : xI ξ 1 4 = nI 0) (hcr : cr G (600 * (n + 1 - p) + x) σ) {x3 x4 : Int32} {s0 : Option Nat} {e : Edt} (hP : ∀ (F' : am_H) (v : Nat) (f : Nat → Value), FE F F' → F' v = some (.inr (27, f)) → f 0 = va_rf none → f 1 = .int x3 → f 2 = .int x4 → f 3 = va_rf s0 → isEt F' e v) {Q : Option Nat → am_S → Prop} (hQ : ThQ G A T n F D ξ p (x + 580) isEt (ps_end T e p N) Q) (hE : XFn G A T n F D ξ x (ps_end T e p N) E) : B_X4_edit_74 G (d + 11) (A 1) x3 x4 s0 σ Q E := by
  have hTD := h.1.2.1
  have hR := h.1.2.2.1
  refine B_X4_edit_74_f (x_o h.1.1 hR.2.1 (by decide) (X_needs (d := d) (x := x) h hG (c := 59) (by decide) hcr (fun e2 F1 ξ1 σ1 g1 g2 g3 g4 g5 g6 => ?_) fun kd q N3 e2 => hE kd q N3 (by unfold ps_end; rw [e2]; rfl)))
  refine X_newO g1 (j := 1) (m := 600 * (n + 1 - lxe T p) + (x + 589)) ok_27 (by decide) (g6.le (by omega)) ⟨by omega, by omega⟩ rfl fun D2 ξ2 σ2 i xd ni nn ri h2 p2 s2 e7 z1 z2 c2 => ?_
  refine W_X30_init_f (d := d + 9) (x_pr h2.1.1 ri (by decide) fun σ3 H3 e3 => x_p H3 ri (by decide) fun σ4 H4 e4 => x_p H4 ri (by decide) fun σ5 H5 e5 => x_pr H5 ri (by decide) fun σ6 H6 e6 => ?_)
  have hqi : ∀ q, D.2.2 q → q ≠ i := fun q hq e => ni (e ▸ hq)
  obtain ⟨F', f1, f2, f3, f4, f5, f6⟩ := X_fin (h2.down xd hTD hR) xd ni ri (fun q hq => (((sR_sc (hqi q hq)).trans (sI_sc (hqi q hq))).trans (sI_sc (hqi q hq))).trans (sR_sc (hqi q hq))) H6
  obtain ⟨f, q1, q2, q3⟩ := xE_f (c := 27) (i := i) (ξ := xs_sR (xs_sI (xs_sI (xs_sR ξ2 i 0 none) i 1 x3) i 2 x4) i 3 s0) (by decide)
  have he : ps_end T e p N = ps_ok e (lxe T p) N := by unfold ps_end; rw [e2]; rfl
  refine hQ e (lxe T p) N he F' _ σ6 _ f3 ((g2.trans p2).trans f4) ((f5.trans (congrFun (s2 1 hR.2.1.1).1 4)).trans (g3.trans h4)) g5 ((((((c2.eq e3).eq e4).eq e5).eq e6)).le (by omega)) (hP F' _ f ((g2.1.trans p2.1).trans f4.1) (f2.trans (congrArg some q1)) ?_ ?_ ?_ ?_)
  · rw [q3 0 (by decide), xR_sR, if_neg (by decide)]
    show va_rf (xR (xs_sR ξ2 i 0 none) i 0) = _
    rw [sR_s]
  · rw [q2 1 (by decide)]
    show Value.int (xI (xs_sI (xs_sI (xs_sR ξ2 i 0 none) i 1 x3) i 2 x4) i 1) = _
    rw [sI_o (by decide), sI_s]
  · rw [q2 2 (by decide)]
    show Value.int (xI (xs_sI (xs_sI (xs_sR ξ2 i 0 none) i 1 x3) i 2 x4) i 2) = _
    rw [sI_s]
  · rw [q3 3 (by decide), sR_s]
/-- an edit that is no member -/
theorem X_edit (hG : GK G) (hd : 48 ≤ d) (h : XI G A T n p N F D ξ σ) (h4 : xI ξ 1 4 = nI 0) (hx : 60 ≤ x) (hcr : cr G (600 * (n + 1 - p) + x) σ) (hm : ¬ (102 ≤ lxt T p ∧ lxt T p ≤ 105)) {Q : Option Nat → am_S → Prop} (hQ : ThQ G A T n F D ξ p (x + 580) isEt (ps_edit T p N) Q) (hE : XFn G A T n F D ξ (x - 60) (ps_edit T p N) E) : W_X4_edit G (d + 17) (A 1) σ Q E := by
  have hTD := h.1.2.1
  have hR := h.1.2.2.1
  have r1 := hR.2.1
  have xn : ∀ {t : Int32}, lxt T p = t → ¬ t = 0 → ¬ lxt T p = 0 := fun e h0 h9 => h0 (e.symm.trans h9)
  refine W_X4_edit_f (x_o h.1.1 r1 (by decide) (X_isWord h hG (k := 19) (by decide) (x_o h.1.1 r1 (by decide) (X_isWord h hG (k := 20) (by decide) ?_))))
  have e19 : nI (100 + 19) = (119 : Int32) := rfl
  have e20 : nI (100 + 20) = (120 : Int32) := rfl
  rw [e19, e20]
  by_cases h119 : lxt T p = 119
  · -- rename
    rw [if_pos h119, if_neg (by rw [h119]; decide)]
    refine y1 (B_X4_edit_39_f (x_o h.1.1 r1 (by decide) (h.next (d := d + 8) hG (xn h119 (by decide)) hcr fun F1 ξ1 σ1 g1 g2 g3 g4 g5 g6 => x_o g1.1.1 r1 (by decide) ?_)))
    have hq9 : ps_edit T p N = ps_b (ps_name T (lxe T p) N) fun a p1 N1 => ps_b (ps_name T p1 N1) fun b p2 N2 => ps_end T (.inr (.inr (.inl (nI a, nI b)))) p2 N2 := by
      unfold ps_edit
      rw [if_neg (by rw [h119]; decide), if_pos h119]
    rw [hq9] at hQ hE
    refine X_takesName (d := d + 7) (x := x + 590) g1 hG g6 (fun a p1 N1 e1 ha F2 ξ2 σ2 j1 j2 j3 j4 j5 j6 => y2 (x_o j1.1.1 r1 (by decide) (X_takesName (d := d + 7) (x := x + 1180) j1 hG j6 (fun b p2 N2 e2 hb F3 ξ3 σ3 k1 k2 k3 k4 k5 k6 => z2 ?_) fun kd q N' e2 => (hE kd q N' (by rw [e1]; show ps_b (ps_name T p1 N1) _ = _; rw [e2]; rfl)).pre (g2.trans j2) XD.refl hTD hR (by omega)))) fun kd q N' e1 => (hE kd q N' (by rw [e1]; rfl)).pre g2 XD.refl hTD hR (by omega)
    rw [e1] at hQ hE
    have hQ1 : ThQ G A T n F D ξ p (x + 580) isEt (ps_b (ps_name T p1 N1) fun b p2 N2 => ps_end T (.inr (.inr (.inl (nI a, nI b)))) p2 N2) Q := hQ
    have hE1 : XFn G A T n F D ξ (x - 60) (ps_b (ps_name T p1 N1) fun b p2 N2 => ps_end T (.inr (.inr (.inl (nI a, nI b))) : Edt) p2 N2) E := hE
    rw [e2] at hQ1 hE1
    exact X_ed74 (e := .inr (.inr (.inl (nI a, nI b)))) (d := d + 6) (x := x + 1770) hG k1 (k3.trans (j3.trans (g3.trans h4))) k6 (fun F' v f _ z1 z2 z3 z4 z5 => ⟨f, z1, z2, z3, z4, z5⟩) (ThQ.pre hQ1 ((g2.trans j2).trans k2) (by omega) (by omega)) (XFn.pre hE1 ((g2.trans j2).trans k2) XD.refl hTD hR (by omega))
  rw [if_neg h119]
  refine z1 ?_
  by_cases h120 : lxt T p = 120
  · -- carry
    rw [if_pos h120]
    refine y1 (B_X4_edit_39_f (x_o h.1.1 r1 (by decide) (h.next (d := d + 8) hG (xn h120 (by decide)) hcr fun F1 ξ1 σ1 g1 g2 g3 g4 g5 g6 => x_o g1.1.1 r1 (by decide) ?_)))
    have hq9 : ps_edit T p N = ps_b (ps_name T (lxe T p) N) fun n p1 N1 => ps_b (ps_xp T p1 N1) fun e p2 N2 => ps_end T (.inr (.inr (.inr (nI n, e)))) p2 N2 := by
      unfold ps_edit
      rw [if_neg (by rw [h120]; decide), if_neg h119, if_pos h120]
    rw [hq9] at hQ hE
    refine X_takesName (d := d + 7) (x := x + 590) g1 hG g6 (fun a p1 N1 e1 ha F2 ξ2 σ2 j1 j2 j3 j4 j5 j6 => z2 (y2 (x_o j1.1.1 r1 (by decide) ?_))) fun kd q N' e1 => (hE kd q N' (by rw [e1]; rfl)).pre g2 XD.refl hTD hR (by omega)
    rw [e1] at hQ hE
    have hQ1 : ThQ G A T n F D ξ p (x + 580) isEt (ps_b (ps_xp T p1 N1) fun e p2 N2 => ps_end T (.inr (.inr (.inr (nI a, e)))) p2 N2) Q := hQ
    have hE1 : XFn G A T n F D ξ (x - 60) (ps_b (ps_xp T p1 N1) fun e p2 N2 => ps_end T (.inr (.inr (.inr (nI a, e))) : Edt) p2 N2) E := hE
    have h14 : xI ξ2 1 4 = nI 0 := j3.trans (g3.trans h4)
    refine X_expr (d := d + 2) hG (Nat.le_refl 12) (by omega) p1 N1 F2 D ξ2 σ2 (x + 1180) _ E j1 h14 (by omega) j6 (fun t p' N' e2 F3 ξ3 σ3 v k1 k2 k3 k4 k5 k6 k7 => ?_) fun kd q N' e2 => (hE1 kd q N' (by unfold ps_xp; rw [e2]; rfl)).pre (g2.trans j2) XD.refl hTD hR (by omega)
    unfold ps_xp at hQ1 hE1
    rw [e2] at hQ1 hE1
    exact X_ed74 (e := .inr (.inr (.inr (nI a, t)))) (d := d + 6) (x := x + 1180) hG k1 k3 (k6.le (by omega)) (fun F' v' f hF' z1 z2 z3 z4 z5 => ⟨f, z1, z2, z3, z4, v, z5, xT.mono hF' t _ _ _ _ _ k7⟩) (ThQ.pre hQ1 ((g2.trans j2).trans k2) (by omega) (by omega)) (XFn.pre hE1 ((g2.trans j2).trans k2) XD.refl hTD hR (by omega))
  rw [if_neg h120]
  refine z1 (x_o h.1.1 r1 (by decide) (X_isWord h hG (k := 17) (by decide) ?_))
  have e17 : nI (100 + 17) = (117 : Int32) := rfl
  rw [e17]
  by_cases h117 : lxt T p = 117
  · -- drop
    rw [if_pos h117]
    refine y1 (B_X4_edit_39_f (x_o h.1.1 r1 (by decide) (h.next (d := d + 8) hG (xn h117 (by decide)) hcr fun F1 ξ1 σ1 g1 g2 g3 g4 g5 g6 => x_o g1.1.1 r1 (by decide) ?_)))
    have hq9 : ps_edit T p N = ps_b (ps_name T (lxe T p) N) fun n p1 N1 => ps_end T (.inr (.inl (nI n))) p1 N1 := by
      unfold ps_edit
      rw [if_pos h117]
    rw [hq9] at hQ hE
    refine X_takesName (d := d + 7) (x := x + 590) g1 hG g6 (fun a p1 N1 e1 ha F2 ξ2 σ2 j1 j2 j3 j4 j5 j6 => z2 (z2 ?_)) fun kd q N' e1 => (hE kd q N' (by rw [e1]; rfl)).pre g2 XD.refl hTD hR (by omega)
    rw [e1] at hQ hE
    have hQ1 : ThQ G A T n F D ξ p (x + 580) isEt (ps_end T (.inr (.inl (nI a))) p1 N1) Q := hQ
    have hE1 : XFn G A T n F D ξ (x - 60) (ps_end T (.inr (.inl (nI a)) : Edt) p1 N1) E := hE
    exact X_ed74 (e := .inr (.inl (nI a))) (d := d + 6) (x := x + 1180) hG j1 (j3.trans (g3.trans h4)) j6 (fun F' v f _ z1 z2 z3 z4 z5 => ⟨f, z1, z2, z3, z4, z5⟩) (ThQ.pre hQ1 (g2.trans j2) (by omega) (by omega)) (XFn.pre hE1 (g2.trans j2) XD.refl hTD hR (by omega))
  · rw [if_neg h117]
    refine z1 (x_o h.1.1 r1 (by decide) (h.bad (d := d + 15) (x := x) ((hE 1 _ N ?_).pre pf.refl XD.refl hTD hR (by omega)) (hcr.le (by omega))))
    unfold ps_edit
    rw [if_neg h117, if_neg h119, if_neg h120]
    unfold ps_mem
    rw [if_pos hm]
    rfl
end
