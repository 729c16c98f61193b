set_option maxRecDepth 100000
section
variable {G : am_G} {A : Nat → Nat} {T : Nat → Int32} {n d x p : Nat} {N : ps_N} {F : am_H} {D : xs_D} {ξ : xs_X} {σ : am_S} {E : Nat → am_S → Prop}
/-- a member behind its check, its name at hand -/
theorem X_mrest (hG : GK G) (hd : 48 ≤ d) (h : XI G A T n p N F D ξ σ) (h2 : lxt T p = 2) (h4 : xI ξ 1 4 = nI 0) (hcr : cr G (600 * (n + 1 - p) + x) σ) {t : Int32} {nm : Nat} {Q : Option Nat → am_S → Prop} (hQ : MeQ G A T n F D ξ p (x + 580) (ps_mrest T t nm (lxe T p) N) Q) (hE : XFn G A T n F D ξ x (ps_mrest T t nm (lxe T p) N) E) {x3 : Int32} (hx3 : x3 = if t = 103 then 1 else 0) : B_X4_member_144 G (d + 18) (A 1) x3 (nI (msort t)) (nI nm) σ Q E := by
  have hTD := h.1.2.1
  have hR := h.1.2.2.1
  subst hx3
  refine B_X4_member_144_f (x_o h.1.1 hR.2.1 (by decide) (h.next (d := d + 9) hG (by rw [h2]; decide) hcr fun F1 ξ1 σ1 g1 g2 g3 g4 g5 g6 => ?_))
  have q1 := g1.1.2.2.1.2.1
  have k4 : xI ξ1 1 4 = nI 0 := g3.trans h4
  replace hQ := hQ.pre g2 (Nat.le_of_lt g5) (show x + 580 ≤ x + 580 from Nat.le_refl _)
  replace hE := hE.pre g2 XD.refl hTD hR (show x ≤ x from Nat.le_refl _)
  unfold ps_mrest at hQ hE
  by_cases h105 : t = 105
  · rw [if_pos h105] at hQ hE
    rw [msort_2 h105]
    refine ⟨fun c => absurd rfl c, fun _ => x_p g1.1.1 q1 (by decide) fun σ2 H2 e2 => ?_⟩
    have h2 : XI G A T n (lxe T p) N F1 D (xs_sI ξ1 1 5 0) σ2 := ⟨g1.1.sI1 H2, g1.2.1, g1.2.2.1.up FE.refl (fun k hk => sI_o (by omega)) rfl, g1.2.2.2⟩
    have p2 : pf D F1 ξ1 F1 (xs_sI ξ1 1 5 0) := ⟨FE.refl, fun q hq h9 => sI_sc fun e => h9 (by rw [e]; decide), fun k _ => congrFun (sI_sc (by decide)).1 k, (sI_sc (by decide)).2.1⟩
    refine X_newO h2 (j := 1) (m := 600 * (n + 1 - lxe T p) + (x + 589)) ok_9 (by decide) ((g6.eq e2).le (by omega)) ⟨by omega, by omega⟩ rfl fun D2 ξ2 σ3 i xd ni nn ri h3 p3 s3 e7 zz1 zz2 c3 => ?_
    have s31 := s3 1 hR.2.1.1
    refine x_o h3.1.1 h3.1.2.2.1.2.1 (by decide) (X_blockO hG hd true 1 ⟨fun e => absurd e (by decide), fun e => absurd e (by decide)⟩ (lxe T p) N F1 D2 ξ2 σ3 0 (x + 589) _ E h3 ((congrFun s31.1 4).trans ((sI_o (by decide)).trans k4)) ((congrFun s31.1 5).trans sI_s) (by omega) (by omega) c3 (fun b s' p' N' e1 F3 ξ3 σ4 v j1 j2 j3 j4 j5 j6 j7 j8 j9 => ?_) fun kd q N' e1 => (hE kd q N' (by rw [e1]; rfl)).pre (p2.trans p3) xd hTD hR (by omega))
    rw [e1] at hQ
    refine W_X9_init_f (d := d + 16) (x_p j1.1.1 ri (by decide) fun σ5 H5 e5 => x_p H5 ri (by decide) fun σ6 H6 e6 => x_p H6 ri (by decide) fun σ7 H7 e7 => x_pr H7 ri (by decide) fun σ8 H8 e8 => ?_)
    obtain ⟨F', f1, f2, f3, f4, f5, f6⟩ := X_fin (j1.down xd hTD hR) xd ni ri (fun q hq => (((sI_sc (show q ≠ i from fun e => ni (e ▸ hq))).trans (sI_sc (show q ≠ i from fun e => ni (e ▸ hq)))).trans (sI_sc (show q ≠ i from fun e => ni (e ▸ hq)))).trans (sR_sc (show q ≠ i from fun e => ni (e ▸ hq)))) H8
    obtain ⟨f, q1, q2, q3⟩ := xE_f (c := 9) (i := i) (ξ := xs_sR (xs_sI (xs_sI (xs_sI ξ3 i 0 (nI 2)) i 1 (nI nm)) i 2 0) i 3 (some v)) (by decide)
    refine hQ _ _ N' rfl F' _ σ8 _ f3 (((p2.trans p3).trans (j2.less xd)).trans f4) (f5.trans j3) (by omega) (((((j8.eq e5).eq e6).eq e7).eq e8).le (by omega)) ⟨f, f2.trans (congrArg some q1), (q2 0 (by decide)).trans (congrArg Value.int ?_), by show 2 < 3; decide, (q2 1 (by decide)).trans (congrArg Value.int ?_), fun e => absurd rfl e, fun _ => ⟨v, (q3 3 (by decide)).trans (congrArg va_rf sR_s), j9.mono f1 fun o j k => xL.mono f1 _ o j k⟩⟩
    · show xI (xs_sI (xs_sI (xs_sI ξ3 i 0 (nI 2)) i 1 (nI nm)) i 2 0) i 0 = nI 2
      rw [sI_o (by decide), sI_o (by decide), sI_s]
    · show xI (xs_sI (xs_sI (xs_sI ξ3 i 0 (nI 2)) i 1 (nI nm)) i 2 0) i 1 = nI nm
      rw [sI_o (by decide), sI_s]
  · rw [if_neg h105] at hQ hE
    have hms : msort t < 2 := by
      unfold msort
      rw [if_neg h105]
      split <;> decide
    refine ⟨fun _ => ?_, fun c => absurd ((nI_eq (show msort t < 2 ^ 31 by omega) (show 2 < 2 ^ 31 by decide)).mp c) (by omega)⟩
    by_cases h103 : t = 103
    · rw [if_pos h103] at hQ hE ⊢
      have hm0 : msort t = 0 := by rw [h103]; rfl
      rw [hm0]
      exact ⟨fun _ => X_me196 (d := d + 7) (x := x + 590) hG g1 k4 g6 (by decide) (hQ.pre pf.refl (Nat.le_refl _) (by omega)) (hE.pre pf.refl XD.refl hTD hR (by omega)), fun c => absurd c (by decide)⟩
    · rw [if_neg h103] at hQ hE ⊢
      refine ⟨fun c => absurd rfl c, fun _ => x_o g1.1.1 q1 (by decide) (X_needs (d := d + 7) (x := x + 590) g1 hG (c := 61) (by decide) g6 (fun e2 F3 ξ3 σ3 j1 j2 j3 j4 j5 j6 => ?_) fun kd q N3 e2 => (hE kd q N3 (by rw [e2]; rfl)).pre pf.refl XD.refl hTD hR (by omega))⟩
      rw [e2] at hQ hE
      have hQ1 : MeQ G A T n F1 D ξ1 (lxe T p) (x + 580) (ps_b (ps_num T (lxe T (lxe T p)) N) fun v p3 N3 => ps_b (ps_need T 59 p3 N3) fun _ p4 N4 => ps_ok (msort t, nI nm, v, Term.thrown) p4 N4) Q := hQ
      have hE1 : XFn G A T n F1 D ξ1 x (ps_b (ps_num T (lxe T (lxe T p)) N) fun v p3 N3 => ps_b (ps_need T 59 p3 N3) fun _ p4 N4 => ps_ok (msort t, nI nm, v, Term.thrown) p4 N4) E := hE
      refine x_o j1.1.1 j1.1.2.2.1.2.1 (by decide) (X_signed (d := d + 7) (x := x + 1180) hG j1 (j6.le (by omega)) (fun v p' N' e3 F4 ξ4 σ4 i1 i2 i3 i4 i5 i6 => ?_) fun kd q N3 e3 => (hE1 kd q N3 (by rw [e3]; rfl)).pre j2 XD.refl hTD hR (by omega))
      rw [e3] at hQ1 hE1
      exact X_me196 (d := d + 7) (x := x + 1770) hG i1 (i3.trans (j3.trans k4)) (i6.le (by omega)) hms (hQ1.pre (j2.trans i2) (by omega) (by omega)) (hE1.pre (j2.trans i2) XD.refl hTD hR (by omega))
/-- a member's first word -/
theorem X_isMember (h : XI G A T n p N F D ξ σ) (hG : GK G) {Q : Int32 → am_S → Prop} (hy : 102 ≤ lxt T p ∧ lxt T p ≤ 105 → Q 1 σ) (hn : ¬ (102 ≤ lxt T p ∧ lxt T p ≤ 105) → Q 0 σ) : W_X4_isMember G (d + 3) (A 1) σ Q := by
  have r1 := h.1.2.2.1.2.1
  have hi := i7 (t := lxt T p) (a := 102) (b := 105) (by decide) (by decide)
  have hyk : ∀ k, 102 ≤ k → k ≤ 105 → lxt T p = nI k → Q 1 σ := fun k h1 h2 h3 => hy (hi.mpr ⟨k, h1, h2, h3⟩)
  refine W_X4_isMember_f ?_
  refine x_o h.1.1 r1 (by decide) (X_isWord2 (d := d) (k := 2) h hG (by decide) (fun e => y1 (hyk 102 (by decide) (by decide) e)) fun n6 => z1 ?_)
  refine x_o h.1.1 r1 (by decide) (X_isWord2 (d := d) (k := 3) h hG (by decide) (fun e => y1 (hyk 103 (by decide) (by decide) e)) fun n7 => z1 ?_)
  refine x_o h.1.1 r1 (by decide) (X_isWord2 (d := d) (k := 4) h hG (by decide) (fun e => y1 (hyk 104 (by decide) (by decide) e)) fun n8 => z1 ?_)
  refine x_o h.1.1 r1 (by decide) (X_isWord2 (d := d) (k := 5) h hG (by decide) (fun e => y2 (hyk 105 (by decide) (by decide) e)) fun n9 => z2 (hn fun h9 => ?_))
  obtain ⟨k, a1, a2, a3⟩ := hi.mp h9
  obtain rfl | rfl | rfl | rfl : k = 102 ∨ k = 103 ∨ k = 104 ∨ k = 105 := by omega
  · exact n6 a3
  · exact n7 a3
  · exact n8 a3
  · exact n9 a3
end
