set_option maxRecDepth 100000
/-! ===== X's reader: members ===== -/
section
variable {G : am_G} {A : Nat → Nat} {T : Nat → Int32} {n d x p : Nat} {N : ps_N} {F : am_H} {D : xs_D} {ξ : xs_X} {σ : am_S} {E : Nat → am_S → Prop}
theorem Xk.pre {F1 : am_H} {ξ1 : xs_X} {p1 p' x1 x2 : Nat} {N' : ps_N} {Q : am_S → Prop} (h : Xk G A T n F D ξ p p' N' x1 Q) (hp : pf D F ξ F1 ξ1) (h4 : xI ξ1 1 4 = xI ξ 1 4) (h5 : xI ξ1 1 5 = xI ξ 1 5) (hpp : p ≤ p1) (hx : x1 ≤ x2) : Xk G A T n F1 D ξ1 p1 p' N' x2 Q := fun F' ξ' σ' k1 k2 k3 k4 k5 k6 => h F' ξ' σ' k1 (hp.trans k2) (k3.trans h4) (k4.trans h5) (by omega) (k6.le (by omega))
/-- a number with a sign -/
theorem X_signed (hG : GK G) (h : XI G A T n p N F D ξ σ) (hcr : cr G (600 * (n + 1 - p) + x) σ) {Q : Int32 → am_S → Prop} (hy : ∀ v p' N', ps_num T p N = ps_ok v p' N' → Xk G A T n F D ξ p p' N' (x + 590) (Q v)) (hn : XFn G A T n F D ξ x (ps_num T p N) E) : W_X4_signed G (d + 10) (A 1) σ Q E := by
  have r1 := h.1.2.2.1.2.1
  have hTD := h.1.2.1
  have hR := h.1.2.2.1
  unfold ps_num at hy hn
  refine W_X4_signed_f (x_o h.1.1 r1 (by decide) (X_takes (d := d) (t := 245) h hG (Or.inl ⟨by decide, rfl⟩) hcr (fun e F1 ξ1 σ1 g1 g2 g3 g4 g5 g6 => ?_) fun e => ?_))
  · rw [if_pos e] at hy hn
    obtain ⟨t4, t2, t0, tv⟩ := g1.tok
    refine x_gi g1.1.1 g1.1.2.2.1.2.1 (by decide) rfl ⟨fun c4 => ?_, fun n4 => ?_⟩
    · have c3 := t4.mp c4
      rw [if_pos c3] at hy
      refine x_gi g1.1.1 g1.1.2.2.1.2.1 (by decide) (tv c3) (x_o g1.1.1 g1.1.2.2.1.2.1 (by decide) (g1.next (d := d + 1) hG (by rw [c3]; decide) g6 fun F2 ξ2 σ2 k1 k2 k3 k4 k5 k6 => y2 ?_))
      exact hy _ _ N rfl F2 ξ2 σ2 k1 (g2.trans k2) (k3.trans g3) (k4.trans g4) (by omega) (k6.le (by omega))
    · rw [if_neg fun c3 => n4 (t4.mpr c3)] at hn
      exact x_o g1.1.1 g1.1.2.2.1.2.1 (by decide) (g1.bad (d := d + 8) (x := x + 590) ((hn 1 _ N rfl).pre g2 XD.refl hTD hR (by omega)) (g6.le (by omega)))
  · rw [if_neg e] at hy hn
    obtain ⟨t4, t2, t0, tv⟩ := h.tok
    refine x_gi h.1.1 r1 (by decide) rfl ⟨fun c4 => ?_, fun n4 => ?_⟩
    · have c3 := t4.mp c4
      rw [if_pos c3] at hy
      exact x_gi h.1.1 r1 (by decide) (tv c3) (x_o h.1.1 r1 (by decide) (h.next (d := d + 1) hG (by rw [c3]; decide) hcr fun F2 ξ2 σ2 k1 k2 k3 k4 k5 k6 => z2 (hy _ _ N rfl F2 ξ2 σ2 k1 k2 k3 k4 k5 k6)))
    · rw [if_neg fun c3 => n4 (t4.mpr c3)] at hn
      exact x_o h.1.1 r1 (by decide) (h.bad (d := d + 8) (x := x) (hn 1 _ N rfl) (hcr.le (by omega)))
/-- what is asked of a member's reading -/
def MeQ (G : am_G) (A : Nat → Nat) (T : Nat → Int32) (n : Nat) (F : am_H) (D : xs_D) (ξ : xs_X) (p x : Nat) (res : ps_R Mem) (Q : Option Nat → am_S → Prop) : Prop := ∀ m p' N', res = ps_ok m p' N' → ∀ F' ξ' σ' v, XI G A T n p' N' F' D ξ' σ' → pf D F ξ F' ξ' → xI ξ' 1 4 = nI 0 → p ≤ p' → cr G (600 * (n + 1 - p') + x) σ' → isMe F' m v → Q (some v) σ'
theorem MeQ.pre {F1 : am_H} {ξ1 : xs_X} {p1 x1 x2 : Nat} {res : ps_R Mem} {Q : Option Nat → am_S → Prop} (h : MeQ G A T n F D ξ p x1 res Q) (hp : pf D F ξ F1 ξ1) (hpp : p ≤ p1) (hx : x1 ≤ x2) : MeQ G A T n F1 D ξ1 p1 x2 res Q := fun m p' N' h1 F' ξ' σ' v k1 k2 k3 k4 k5 k6 => h m p' N' h1 F' ξ' σ' v k1 (hp.trans k2) k3 (by omega) (k5.le (by omega)) k6
/-- a member's object, behind its semicolon -/
theorem X_me196 (hG : GK G) (h : XI G A T n p N F D ξ σ) (h4 : xI ξ 1 4 = nI 0) (hcr : cr G (600 * (n + 1 - p) + x) σ) {s : Nat} {nm v : Int32} (hs : s < 2) {Q : Option Nat → am_S → Prop} (hQ : MeQ G A T n F D ξ p (x + 580) (ps_b (ps_need T 59 p N) fun _ p2 N2 => ps_ok (s, nm, v, Term.thrown) p2 N2) Q) (hE : XFn G A T n F D ξ x (ps_b (ps_need T 59 p N) fun _ p2 N2 => ps_ok ((s, nm, v, Term.thrown) : Mem) p2 N2) E) : B_X4_member_196 G (d + 11) (A 1) (nI s) nm v σ Q E := by
  have hTD := h.1.2.1
  have hR := h.1.2.2.1
  refine B_X4_member_196_f (x_o h.1.1 hR.2.1 (by decide) (X_needs (d := d) (x := x) h hG (c := 59) (by decide) hcr (fun e2 F1 ξ1 σ1 g1 g2 g3 g4 g5 g6 => ?_) fun kd q N3 e2 => (hE kd q N3 (by rw [e2]; rfl)).pre pf.refl XD.refl hTD hR (by omega)))
  rw [e2] at hQ
  refine X_newO g1 (j := 1) (m := 600 * (n + 1 - lxe T p) + (x + 589)) ok_9 (by decide) (g6.le (by omega)) ⟨by omega, by omega⟩ rfl fun D2 ξ2 σ2 i xd ni nn ri h2 p2 s2 e7 zz1 zz2 c2 => ?_
  refine W_X9_init_f (d := d + 9) (x_p h2.1.1 ri (by decide) fun σ4 H4 e4 => x_p H4 ri (by decide) fun σ5 H5 e5 => x_p H5 ri (by decide) fun σ6 H6 e6 => x_pr H6 ri (by decide) fun σ7 H7 e7 => ?_)
  obtain ⟨F', f1, f2, f3, f4, f5, f6⟩ := X_fin (h2.down xd hTD hR) xd ni ri (fun q hq => (((sI_sc (show q ≠ i from fun e => ni (e ▸ hq))).trans (sI_sc (show q ≠ i from fun e => ni (e ▸ hq)))).trans (sI_sc (show q ≠ i from fun e => ni (e ▸ hq)))).trans (sR_sc (show q ≠ i from fun e => ni (e ▸ hq)))) H7
  obtain ⟨f, q1, q2, q3⟩ := xE_f (c := 9) (i := i) (ξ := xs_sR (xs_sI (xs_sI (xs_sI ξ2 i 0 (nI s)) i 1 nm) i 2 v) i 3 none) (by decide)
  refine hQ _ _ N rfl F' _ σ7 _ f3 ((g2.trans p2).trans f4) (f5.trans ((congrFun (s2 1 hR.2.1.1).1 4).trans (g3.trans h4))) (by omega) ((((((c2.eq e4).eq e5).eq e6).eq e7)).le (by omega)) ⟨f, f2.trans (congrArg some q1), (q2 0 (by decide)).trans (congrArg Value.int ?_), by show s < 3; omega, (q2 1 (by decide)).trans (congrArg Value.int ?_), fun _ => (q2 2 (by decide)).trans (congrArg Value.int ?_), fun e => absurd e (by show ¬ s = 2; omega)⟩
  · show xI (xs_sI (xs_sI (xs_sI ξ2 i 0 (nI s)) i 1 nm) i 2 v) i 0 = nI s
    rw [sI_o (by decide), sI_o (by decide), sI_s]
  · show xI (xs_sI (xs_sI (xs_sI ξ2 i 0 (nI s)) i 1 nm) i 2 v) i 1 = nm
    rw [sI_o (by decide), sI_s]
  · show xI (xs_sI (xs_sI (xs_sI ξ2 i 0 (nI s)) i 1 nm) i 2 v) i 2 = v
    rw [sI_s]
end
