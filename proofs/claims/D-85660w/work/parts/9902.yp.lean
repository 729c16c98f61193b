set_option maxRecDepth 100000
section
variable {G : am_G} {A : Nat → Nat} {T : Nat → Int32} {n d x p : Nat} {N : ps_N} {F : am_H} {D : xs_D} {ξ : xs_X} {σ : am_S} {E : Nat → am_S → Prop}
/-- what is above a kind of a pond -/
theorem X_under_p (hG : GK G) (h : XI G A T n p N F D ξ σ) (hcr : cr G (600 * (n + 1 - p) + x) σ) {b l cap : Nat} {e : Option Nat} {ds : List (Nat × Nat)} {L : List Kd} (hW : PW G F D ξ b l e cap ds L) (hL : L.length ≤ 12) {Q : Int32 → am_S → Prop} (h0 : ¬ lxt T p = 101 → Q (-1) σ) (hy : lxt T p = 101 → ∀ a p2 N2 u, ps_name T (lxe T p) N = ps_ok a p2 N2 → a < 40 → ixK L (nI a) = some u → Xk G A T n F D ξ p p2 N2 (x + 590) (Q (nI a))) (hn1 : lxt T p = 101 → XFn G A T n F D ξ x (ps_name T (lxe T p) N) E) (hn2 : lxt T p = 101 → ∀ a p2 N2, ps_name T (lxe T p) N = ps_ok a p2 N2 → ixK L (nI a) = none → XFt G A T n F D ξ x E 4 (lxa T (lxe T p)) N2) : W_X4_under G (d + 10) (A 1) (some b) σ Q E := by
  have hTD := h.1.2.1
  have hR := h.1.2.2.1
  refine W_X4_under_f (x_o h.1.1 hR.2.1 (by decide) (X_takesWord (d := d) (k := 1) (x := x) h hG (by decide) hcr (fun e1 F1 ξ1 σ1 g1 g2 g3 g4 g5 g6 => y1 ?_) fun e1 => z1 (h0 e1)))
  have e101 : lxt T p = 101 := e1
  refine x_o g1.1.1 g1.1.2.2.1.2.1 (by decide) (X_name (d := d + 5) (x := x) g1 hG (g6.le (by omega)) (fun a p' N' e2 e3 e4 ha F2 ξ2 σ2 j1 j2 j3 j4 j5 => ?_) fun kd q N' e2 => (hn1 e101 kd q N' e2).pre g2 XD.refl hTD hR (Nat.le_refl _))
  subst e4
  have hW2 := hW.pf (g2.trans j2)
  refine ⟨fun c => absurd c (by simp), fun _ => X_draft (d := d + 4) j1.1.1 hW2 hL (fun k dd kd f1 f2 f3 f4 => ⟨fun _ => ?_, fun c => absurd c (by simp)⟩) fun f1 => ⟨fun c => absurd rfl c, fun _ => ?_⟩⟩
  · refine x_o j1.1.1 j1.1.2.2.1.2.1 (by decide) (j1.next (d := d + 1) (x := x + 590) hG (by rw [e3]; decide) (g6.eq j5) fun F3 ξ3 σ3 k1 k2 k3 k4 k5 k6 => ?_)
    exact hy e101 a _ N' k e2 ha f1 F3 ξ3 σ3 k1 ((g2.trans j2).trans k2) (k3.trans (j3.trans g3)) (k4.trans (j4.trans g4)) (by omega) (k6.le (by omega))
  · exact X_refuse (x := x) j1 ((hn2 e101 a _ N' e2 f1).pre (g2.trans j2) XD.refl hTD hR (Nat.le_refl _)) ((g6.eq j5).le (by omega))
end
