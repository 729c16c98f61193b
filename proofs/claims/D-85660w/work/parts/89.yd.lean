set_option maxRecDepth 100000
section
variable {G : am_G} {A : Nat → Nat} {T : Nat → Int32} {n d p : Nat} {N : ps_N} {F : am_H} {D : xs_D} {ξ : xs_X} {σ : am_S}
theorem StQ.pre {F1 : am_H} {ξ1 : xs_X} {s s1 x x1 : Nat} {ns : Int32} {P : am_H → Term → Nat → Prop} {res : ps_B} {Q : Option Nat → am_S → Prop} (h : StQ G A T n F D ξ p ns s x P res Q) (hp : pf D F ξ F1 ξ1) (hs : s ≤ s1) (hx : x ≤ x1) : StQ G A T n F1 D ξ1 p ns s1 x1 P res Q := fun t s' p' N' h1 F' ξ' σ' v k1 k2 k3 k4 k5 k6 k7 k8 k9 => h t s' p' N' h1 F' ξ' σ' v k1 (hp.trans k2) k3 k4 k5 (by omega) k7 (k8.le (by omega)) k9
/-- behind the count of statements -/
theorem X_st38 (hG : GK G) {r s x : Nat} {own : Bool} (hr : r ≤ 12) (hd : 4 * r ≤ d) (ih : ∀ u, r = u + 1 → XStm G A T n (fun σ Q E => W_X4_statement G (d + 13) (A 1) 0 σ Q E) (nI (12 - u)) 1 isSt (ps_stmt T u false)) (h : XI G A T n p N F D ξ σ) (h4 : xI ξ 1 4 = nI (12 - r)) (h5 : xI ξ 1 5 = nI s) (hs60 : s ≤ 60) (hx : 60 ≤ x) (hcr : cr G (600 * (n + 1 - p) + x) σ) (hok : lxt T p = 2 ∨ (106 ≤ lxt T p ∧ lxt T p ≤ 112)) (hown : ¬ (lxt T p = 111 ∧ own = false)) {Q : Option Nat → am_S → Prop} {E : Nat → am_S → Prop} (hQ : StQ G A T n F D ξ p (nI (12 - r)) (s + 1) (x + 250) isSt (ps_stmt T r own p N s) Q) (hE : XFn G A T n F D ξ (x - 50) (ps_stmt T r own p N s) E) : B_X4_statement_38 G (d + 16) (A 1) σ Q E := by
  have hTD := h.1.2.1
  have hR := h.1.2.2.1
  have r1 := hR.2.1
  have hL := h.1.2.2.2.1
  have hK := h.2.2.1
  have hz : ¬ lxt T p = 0 := fun e => by rw [e] at hok; exact absurd hok (by decide)
  unfold ps_stmt at hQ hE
  rw [if_neg (not_not_intro hok), if_neg hown] at hQ hE
  refine B_X4_statement_38_f (x_gi h.1.1 r1 (by decide) h5 ⟨fun n60 => ?_, fun c60 => ?_⟩)
  · have hs : ¬ s = 60 := fun e => n60 (by rw [e]; rfl)
    rw [if_neg hs] at hQ hE
    refine x_gi h.1.1 r1 (by decide) h5 (x_p h.1.1 r1 (by decide) fun σ2 H2 e2 => ?_)
    rw [nI_1] at H2
    have h2 : XI G A T n p N F D (xs_sI ξ 1 5 (nI (s + 1))) σ2 := ⟨h.1.sI1 H2, h.2.1, h.2.2.1.up FE.refl (fun k hk => sI_o (by omega)) rfl, h.2.2.2⟩
    have p2 : pf D F ξ F (xs_sI ξ 1 5 (nI (s + 1))) := ⟨FE.refl, fun q hq h9 => sI_sc fun e => h9 (by rw [e]; decide), fun k _ => congrFun (sI_sc (by decide)).1 k, (sI_sc (by decide)).2.1⟩
    have k5 : xI (xs_sI ξ 1 5 (nI (s + 1))) 1 5 = nI (s + 1) := sI_s
    have k4 : xI (xs_sI ξ 1 5 (nI (s + 1))) 1 4 = nI (12 - r) := (sI_o (by decide)).trans h4
    refine x_o H2 r1 (by decide) (X_isWord2 (d := d + 13) (k := 12) h2 hG (by decide) (fun e => y2 ?_) fun e => z2 ?_)
    · have e112 : lxt T p = 112 := e
      rw [if_pos e112] at hQ hE
      refine x_o H2 r1 (by decide) (X_chooses (s := s + 1) (x := x) hG hr (by omega) ih h2 k4 k5 (by omega) hz hx (hcr.eq e2) (fun u hu => ?_) (fun u hu => ?_) fun h0 => ?_)
      · subst hu
        exact hQ.pre p2 (Nat.le_refl _) (Nat.le_refl _)
      · subst hu
        exact hE.pre p2 XD.refl hTD hR (Nat.le_refl _)
      · subst h0
        exact (hE 3 _ N rfl).pre p2 XD.refl hTD hR (Nat.le_refl _)
    · have n112 : ¬ lxt T p = 112 := e
      rw [if_neg n112, ps_plain_semi] at hQ hE
      refine x_o H2 r1 (by decide) (X_plain (x := x) hG hr hd h2 k4 hx (hcr.eq e2) hok n112 (fun t p' N' e1 F3 ξ3 σ3 v g1 g2 g3 g4 g5 g6 g7 => x_o g1.1.1 g1.1.2.2.1.2.1 (by decide) ?_) fun kd q N' e1 => (hE kd q N' (by rw [e1]; rfl)).pre p2 XD.refl hTD hR (by omega))
      rw [e1] at hQ hE
      have hQ1 : StQ G A T n F D ξ p (nI (12 - r)) (s + 1) (x + 250) isSt (ps_semi T t (s + 1) p' N') Q := hQ
      have hE1 : XFn G A T n F D ξ (x - 50) (ps_semi T t (s + 1) p' N') E := hE
      refine X_needs (d := d + 5) (x := x) g1 hG (c := 59) (by decide) g6 (fun e2 F4 ξ4 σ4 j1 j2 j3 j4 j5 j6 => ?_) fun kd q N3 e2 => (hE1 kd q N3 (by unfold ps_semi; rw [e2]; rfl)).pre (p2.trans g2) XD.refl hTD hR (by omega)
      exact hQ1 t (s + 1) (lxe T p') N' (by unfold ps_semi; rw [e2]; rfl) F4 ξ4 σ4 v j1 ((p2.trans g2).trans j2) ((j3.trans g3).trans k4) ((j4.trans g4).trans k5) (by omega) (Nat.le_refl _) (by omega) (j6.le (by omega)) (g7.mono j2.1)
  · have hs : s = 60 := (nI_eq (by omega) (by decide)).mp c60
    rw [if_pos hs] at hE
    exact x_gr h.1.1 r1 (by decide) hL.2.2.2.1 (x_gi h.1.1 r1 (by decide) hK.2.1 (x_o h.1.1 hR.1 (by decide) (h.ft (hE 3 _ N rfl) rfl (hcr.le (by omega)))))
/-- a statement -/
theorem X_stmt1 (hG : GK G) {r : Nat} {own : Bool} {x1 : Int32} (hx1 : own = false ↔ x1 = 0) (hr : r ≤ 12) (hd : 4 * r ≤ d) (ih : ∀ u, r = u + 1 → XStm G A T n (fun σ Q E => W_X4_statement G (d + 13) (A 1) 0 σ Q E) (nI (12 - u)) 1 isSt (ps_stmt T u false)) : XStm G A T n (fun σ Q E => W_X4_statement G (d + 16) (A 1) x1 σ Q E) (nI (12 - r)) 1 isSt (ps_stmt T r own) := fun p N F D ξ σ s x Q E h h4 h5 hs60 hx hcr hQ hE => by
  have hTD := h.1.2.1
  have hR := h.1.2.2.1
  have r1 := hR.2.1
  have hL := h.1.2.2.2.1
  have hK := h.2.2.1
  have hQ' : StQ G A T n F D ξ p (nI (12 - r)) (s + 1) (x + 250) isSt (ps_stmt T r own p N s) Q := hQ
  refine W_X4_statement_f (x_o h.1.1 r1 (by decide) (X_isStatement (d := d + 12) h hG (fun hok => y1 (x_o h.1.1 r1 (by decide) ?_)) fun hno => z1 (x_o h.1.1 r1 (by decide) (h.bad (d := d + 14) (x := x - 50) (hE 1 _ N ?_) (hcr.le (by omega))))))
  · refine X_isWord2 (d := d + 13) (k := 11) h hG (by decide) (fun e => y2 ⟨fun n1 => ?_, fun c1 => ?_⟩) fun e => z2 ?_
    · exact X_st38 hG hr hd ih h h4 h5 hs60 hx hcr hok (fun h9 => n1 (hx1.mp h9.2)) hQ' hE
    · have e111 : lxt T p = 111 := e
      refine x_gr h.1.1 r1 (by decide) hL.2.2.2.1 (x_gi h.1.1 r1 (by decide) hK.2.1 (x_o h.1.1 hR.1 (by decide) (h.ft (hE 2 (lxa T p) N ?_) rfl (hcr.le (by omega)))))
      unfold ps_stmt
      rw [if_neg (not_not_intro hok), if_pos ⟨e111, hx1.mpr c1⟩]
    · have n111 : ¬ lxt T p = 111 := e
      exact X_st38 hG hr hd ih h h4 h5 hs60 hx hcr hok (fun h9 => n111 h9.1) hQ' hE
  · unfold ps_stmt
    rw [if_pos hno]
theorem X_stmt (hG : GK G) : ∀ (r : Nat), r ≤ 12 → ∀ d, 4 * r ≤ d → ∀ (own : Bool) (x1 : Int32), (own = false ↔ x1 = 0) → XStm G A T n (fun σ Q E => W_X4_statement G (d + 16) (A 1) x1 σ Q E) (nI (12 - r)) 1 isSt (ps_stmt T r own)
  | 0, hr, d, hd, own, x1, h1 => X_stmt1 hG h1 hr hd fun u e => absurd e (by omega)
  | r + 1, hr, d, hd, own, x1, h1 => by
    obtain ⟨d4, rfl⟩ : ∃ d4, d = d4 + 4 := ⟨d - 4, by omega⟩
    refine X_stmt1 hG h1 hr hd fun u e => ?_
    obtain rfl : r = u := by omega
    exact X_stmt hG r (by omega) (d4 + 1) (by omega) false 0 ⟨fun _ => rfl, fun _ => rfl⟩
/-- an act's own block -/
theorem X_blockO (hG : GK G) (hd : 48 ≤ d) (own : Bool) (x1 : Int32) (h1 : own = false ↔ x1 = 0) : XStm G A T n (fun σ Q E => W_X4_block G (d + 17) (A 1) x1 σ Q E) (nI 0) 0 (fun F t v => isBk F v (xL F t)) (ps_blk T (ps_stmt T 12 own)) := X_block (d := d + 6) hG (X_stmt hG 12 (Nat.le_refl _) d hd own x1 h1)
end
