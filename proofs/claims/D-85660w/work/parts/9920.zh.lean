set_option maxRecDepth 100000
section
variable {G : am_G} {A : Nat → Nat} {T : Nat → Int32} {n d x p : Nat} {N : ps_N} {F : am_H} {D : xs_D} {ξ : xs_X} {σ : am_S} {E : Nat → am_S → Prop}
/-- a change's semicolon -/
theorem X_ch137 (hG : GK G) (h : XI G A T n p N F D ξ σ) (h4 : xI ξ 1 4 = nI 0) (hcr : cr G (600 * (n + 1 - p) + x) σ) {c : Chg} {v : Nat} (hP : isCg F c v) {Q : Option Nat → am_S → Prop} (hQ : ThQ G A T n F D ξ p (x + 590) isCg (ps_end T c p N) Q) (hE : XFn G A T n F D ξ x (ps_end T c p N) E) : B_X4_change_137 G (d + 11) (A 1) (some v) σ Q E := by
  refine B_X4_change_137_f (x_o h.1.1 h.1.2.2.1.2.1 (by decide) (X_needs (d := d) (x := x) h hG (c := 59) (by decide) hcr (fun e2 F1 ξ1 σ1 g1 g2 g3 g4 g5 g6 => ?_) fun kd q N3 e2 => hE kd q N3 (by unfold ps_end; rw [e2]; rfl)))
  exact hQ c (lxe T p) N (by unfold ps_end; rw [e2]; rfl) F1 ξ1 σ1 v g1 g2 (g3.trans h4) g5 g6 (hP.mono g2.1)
/-- a change -/
theorem X_change (hG : GK G) (hd : 48 ≤ d) (he : ∀ p, 1000 ≤ p → T p = -1) (h : XI G A T n p N F D ξ σ) (h4 : xI ξ 1 4 = nI 0) (hx : 200 ≤ x) (hcr : cr G (600 * (n + 1 - p) + x) σ) {Q : Option Nat → am_S → Prop} (hQ : ThQ G A T n F D ξ p (x + 500) isCg (ps_change T p N) Q) (hE : XFn G A T n F D ξ (x - 100) (ps_change T p N) E) : W_X4_change G (d + 20) (A 1) σ Q E := by
  have hTD := h.1.2.1
  have hR := h.1.2.2.1
  have r1 := hR.2.1
  refine W_X4_change_f (x_o h.1.1 r1 (by decide) (X_takesWord (d := d + 10) (k := 0) (x := x) h hG (by decide) hcr (fun e1 F1 ξ1 σ1 g1 g2 g3 g4 g5 g6 => y2 ?_) fun e1 => z2 ?_))
  · -- a kind comes
    have e100 : lxt T p = 100 := e1
    have hq9 : ps_change T p N = ps_b (ps_name T (lxe T p) N) fun n p1 N1 => ps_b (ps_under T p1 N1) fun ab p2 N2 => ps_b (ps_brace T (ps_mem T noC) p2 N2) fun ms p3 N3 => ps_ok (.inl (nI n, ab, ms) : Chg) p3 N3 := by
      unfold ps_change
      rw [if_neg (not_not_intro (Or.inl e100))]
      congr 1
      funext n p1 N1
      rw [if_pos e100]
    rw [hq9] at hQ hE
    exact x_o g1.1.1 g1.1.2.2.1.2.1 (by decide) (X_comes (x := x + 590) hG hd he g1 (g3.trans h4) (by omega) g6 (ThQ.pre hQ g2 (by omega) (by omega)) (XFn.pre hE g2 XD.refl hTD hR (by omega)))
  have n100 : ¬ lxt T p = 100 := e1
  refine x_o h.1.1 r1 (by decide) (X_takesWord (d := d + 10) (k := 16) (x := x) h hG (by decide) hcr (fun e2 F1 ξ1 σ1 g1 g2 g3 g4 g5 g6 => y2 ?_) fun e2 => z2 ?_)
  · -- edits
    have e116 : lxt T p = 116 := e2
    have hq9 : ps_change T p N = ps_b (ps_name T (lxe T p) N) fun n p1 N1 => ps_b (ps_brace T (ps_edit T) p1 N1) fun es p3 N3 => ps_ok (.inr (.inl (nI n, es)) : Chg) p3 N3 := by
      unfold ps_change
      rw [if_neg (not_not_intro (Or.inr (Or.inl (by rw [e116]; decide))))]
      congr 1
      funext n p1 N1
      rw [if_neg n100, if_pos e116]
    rw [hq9] at hQ hE
    exact x_o g1.1.1 g1.1.2.2.1.2.1 (by decide) (X_changes (x := x + 590) hG hd he g1 (g3.trans h4) (by omega) g6 (ThQ.pre hQ g2 (by omega) (by omega)) (XFn.pre hE g2 XD.refl hTD hR (by omega)))
  have n116 : ¬ lxt T p = 116 := e2
  refine x_o h.1.1 r1 (by decide) (X_isWord h hG (k := 17) (by decide) (x_o h.1.1 r1 (by decide) (X_isWord h hG (k := 18) (by decide) ?_)))
  rw [show nI (100 + 17) = (117 : Int32) from rfl, show nI (100 + 18) = (118 : Int32) from rfl]
  -- behind the first word
  have b69 : ∀ (mk : (Nat → Nat → ps_N → ps_R Chg)), (lxt T p = 117 ∨ lxt T p = 118 ∨ lxt T p = 121) → B_X4_change_69 G (d + 20) (A 1) (if lxt T p = 117 then 1 else 0) (if lxt T p = 118 then 1 else 0) σ Q E := fun _ hw => by
    have hok : lxt T p = 100 ∨ (116 ≤ lxt T p ∧ lxt T p ≤ 118) ∨ lxt T p = 121 := by
      rcases hw with e | e | e
      · exact Or.inr (Or.inl (by rw [e]; decide))
      · exact Or.inr (Or.inl (by rw [e]; decide))
      · exact Or.inr (Or.inr e)
    have hz : ¬ lxt T p = 0 := by
      rcases hw with e | e | e
      · rw [e]; decide
      · rw [e]; decide
      · rw [e]; decide
    unfold ps_change at hQ hE
    rw [if_neg (not_not_intro hok)] at hQ hE
    refine B_X4_change_69_f (x_o h.1.1 r1 (by decide) (h.next (d := d + 11) hG hz hcr fun F1 ξ1 σ1 g1 g2 g3 g4 g5 g6 => x_o g1.1.1 r1 (by decide) (X_takesName (d := d + 10) (x := x + 590) g1 hG g6 (fun a p1 N1 e1 ha F2 ξ2 σ2 j1 j2 j3 j4 j5 j6 => ?_) fun kd q N' e1 => (hE kd q N' (by rw [e1]; rfl)).pre g2 XD.refl hTD hR (by omega))))
    rw [e1] at hQ hE
    have h24 : xI ξ2 1 4 = nI 0 := j3.trans (g3.trans h4)
    have pf2 := g2.trans j2
    by_cases h117 : lxt T p = 117
    · -- a kind goes
      have n118 : ¬ lxt T p = 118 := by rw [h117]; decide
      have n121 : ¬ lxt T p = 121 := by rw [h117]; decide
      rw [if_pos h117]
      have hQ1 : ThQ G A T n F D ξ p (x + 500) isCg (if lxt T p = 100 then ps_b (ps_under T p1 N1) fun ab p2 N2 => ps_b (ps_brace T (ps_mem T noC) p2 N2) fun ms p3 N3 => ps_ok (.inl (nI a, ab, ms)) p3 N3
        else if lxt T p = 116 then ps_b (ps_brace T (ps_edit T) p1 N1) fun es p2 N2 => ps_ok (.inr (.inl (nI a, es))) p2 N2
        else if lxt T p = 121 then ps_b (ps_xp T p1 N1) fun e p2 N2 => ps_end T (.inr (.inr (.inr (.inr (nI a, e))))) p2 N2
        else if lxt T p = 118 then ps_b (ps_under T p1 N1) fun ab p2 N2 => ps_end T (.inr (.inr (.inr (.inl (nI a, ab))))) p2 N2
        else ps_end T (.inr (.inr (.inl (nI a)))) p1 N1) Q := hQ
      have hE1 : XFn G A T n F D ξ (x - 100) (if lxt T p = 100 then ps_b (ps_under T p1 N1) fun ab p2 N2 => ps_b (ps_brace T (ps_mem T noC) p2 N2) fun ms p3 N3 => ps_ok (.inl (nI a, ab, ms) : Chg) p3 N3
        else if lxt T p = 116 then ps_b (ps_brace T (ps_edit T) p1 N1) fun es p2 N2 => ps_ok (.inr (.inl (nI a, es))) p2 N2
        else if lxt T p = 121 then ps_b (ps_xp T p1 N1) fun e p2 N2 => ps_end T (.inr (.inr (.inr (.inr (nI a, e))))) p2 N2
        else if lxt T p = 118 then ps_b (ps_under T p1 N1) fun ab p2 N2 => ps_end T (.inr (.inr (.inr (.inl (nI a, ab))))) p2 N2
        else ps_end T (.inr (.inr (.inl (nI a)))) p1 N1) E := hE
      rw [if_neg n100, if_neg n116, if_neg n121, if_neg n118] at hQ1 hE1
      refine y2 (X_newO j1 (j := 1) (m := 600 * (n + 1 - p1) + (x + 1179)) ok_28 (by decide) (j6.le (by omega)) ⟨by omega, by omega⟩ rfl fun D2 ξ3 σ3 i xd ni nn ri h2 p2 s2 e7 z1 z2 c2 => ?_)
      have hqi : ∀ q, D.2.2 q → q ≠ i := fun q hq e => ni (e ▸ hq)
      refine x_gr h2.1.1 (xd _ _ _ r1) (by decide) e7 (W_X31_init_f (x_pr h2.1.1 ri (by decide) fun σ4 H4 e4 => W_X27_init_f (d := d + 17) (x_pr H4 ri (by decide) fun σ5 H5 e5 => x_p H5 ri (by decide) fun σ6 H6 e6 => ?_)))
      obtain ⟨F', f1, f2, f3, f4, f5, f6⟩ := X_fin (h2.down xd hTD hR) xd ni ri (fun q hq => ((sR_sc (hqi q hq)).trans (sR_sc (hqi q hq))).trans (sI_sc (hqi q hq))) H6 (tf_of (by decide) fun k hk => by
        have hk5 : k = 1 ∨ k = 2 := by simpa [tfs] using hk
        rcases hk5 with e9 | e9
        · subst e9
          rw [xR_sI, xR_sR, if_pos rfl]
        · subst e9
          rw [xR_sI, xR_sR, if_neg (by decide), xR_sR, if_pos rfl])
      obtain ⟨f, q1, q2, q3⟩ := xE_f (c := 28) (i := i) (ξ := xs_sI (xs_sR (xs_sR ξ3 i 2 (some (A 0))) i 1 (some (A 0))) i 0 (nI a)) (by decide)
      have pf3 := (pf2.trans p2).trans f4
      exact X_ch137 (d := d + 9) (x := x + 1179) (c := .inr (.inr (.inl (nI a)))) hG f3 ((f5.trans (congrFun (s2 1 hR.2.1.1).1 4)).trans h24) (((c2.eq e4).eq e5).eq e6) ⟨28, f, f2.trans (congrArg some q1), rfl, by rw [q2 0 (by decide), sI_s]⟩ (ThQ.pre hQ1 pf3 (by omega) (by omega)) (XFn.pre hE1 pf3 XD.refl hTD hR (by omega))
    rw [if_neg h117]
    by_cases h118 : lxt T p = 118
    · -- it moves
      have n121 : ¬ lxt T p = 121 := by rw [h118]; decide
      rw [if_pos h118]
      have hQ1 : ThQ G A T n F D ξ p (x + 500) isCg (if lxt T p = 100 then ps_b (ps_under T p1 N1) fun ab p2 N2 => ps_b (ps_brace T (ps_mem T noC) p2 N2) fun ms p3 N3 => ps_ok (.inl (nI a, ab, ms)) p3 N3
        else if lxt T p = 116 then ps_b (ps_brace T (ps_edit T) p1 N1) fun es p2 N2 => ps_ok (.inr (.inl (nI a, es))) p2 N2
        else if lxt T p = 121 then ps_b (ps_xp T p1 N1) fun e p2 N2 => ps_end T (.inr (.inr (.inr (.inr (nI a, e))))) p2 N2
        else if lxt T p = 118 then ps_b (ps_under T p1 N1) fun ab p2 N2 => ps_end T (.inr (.inr (.inr (.inl (nI a, ab))))) p2 N2
        else ps_end T (.inr (.inr (.inl (nI a)))) p1 N1) Q := hQ
      have hE1 : XFn G A T n F D ξ (x - 100) (if lxt T p = 100 then ps_b (ps_under T p1 N1) fun ab p2 N2 => ps_b (ps_brace T (ps_mem T noC) p2 N2) fun ms p3 N3 => ps_ok (.inl (nI a, ab, ms) : Chg) p3 N3
        else if lxt T p = 116 then ps_b (ps_brace T (ps_edit T) p1 N1) fun es p2 N2 => ps_ok (.inr (.inl (nI a, es))) p2 N2
        else if lxt T p = 121 then ps_b (ps_xp T p1 N1) fun e p2 N2 => ps_end T (.inr (.inr (.inr (.inr (nI a, e))))) p2 N2
        else if lxt T p = 118 then ps_b (ps_under T p1 N1) fun ab p2 N2 => ps_end T (.inr (.inr (.inr (.inl (nI a, ab))))) p2 N2
        else ps_end T (.inr (.inr (.inl (nI a)))) p1 N1) E := hE
      rw [if_neg n100, if_neg n116, if_neg n121, if_pos h118] at hQ1 hE1
      refine z2 (y2 (X_newO j1 (j := 1) (m := 600 * (n + 1 - p1) + (x + 1179)) ok_29 (by decide) (j6.le (by omega)) ⟨by omega, by omega⟩ rfl fun D2 ξ3 σ3 i xd ni nn ri h2 p2 s2 e7 z1 z2 c2 => ?_))
      have hqi : ∀ q, D.2.2 q → q ≠ i := fun q hq e => ni (e ▸ hq)
      refine x_gr h2.1.1 (xd _ _ _ r1) (by decide) e7 (x_o h2.1.1 (xd _ _ _ r1) (by decide) (X_under_n (d := d + 9) (x := x + 1179) hG h2 c2 (fun ab p3 N3 e3 F4 ξ4 σ4 k1 k2 k3 k4 k5 => ?_) fun kd q N' e3 => (hE1 kd q N' (by rw [e3]; rfl)).pre (pf2.trans p2) xd hTD hR (by omega)))
      rw [e3] at hQ1 hE1
      refine W_X32_init_f (x_pr k1.1.1 ri (by decide) fun σ5 H5 e5 => W_X27_init_f (d := d + 17) (x_pr H5 ri (by decide) fun σ6 H6 e6 => x_p H6 ri (by decide) fun σ7 H7 e7 => x_p H7 ri (by decide) fun σ8 H8 e8 => ?_))
      obtain ⟨F', f1, f2, f3, f4, f5, f6⟩ := X_fin (k1.down xd hTD hR) xd ni ri (fun q hq => (((sR_sc (hqi q hq)).trans (sR_sc (hqi q hq))).trans (sI_sc (hqi q hq))).trans (sI_sc (hqi q hq))) H8 (tf_of (by decide) fun k hk => by
        have hk5 : k = 1 ∨ k = 3 := by simpa [tfs] using hk
        rcases hk5 with e9 | e9
        · subst e9
          rw [xR_sI, xR_sI, xR_sR, if_pos rfl]
        · subst e9
          rw [xR_sI, xR_sI, xR_sR, if_neg (by decide), xR_sR, if_pos rfl])
      obtain ⟨f, q1, q2, q3⟩ := xE_f (c := 29) (i := i) (ξ := xs_sI (xs_sI (xs_sR (xs_sR ξ4 i 3 (some (A 0))) i 1 (some (A 0))) i 0 (nI a)) i 2 (oN ab)) (by decide)
      have pf3 := ((pf2.trans p2).trans (k2.less xd)).trans f4
      exact X_ch137 (d := d + 9) (x := x + 1179) (c := .inr (.inr (.inr (.inl (nI a, ab))))) hG f3 ((f5.trans (k3.trans (congrFun (s2 1 hR.2.1.1).1 4))).trans h24) ((((k5.eq e5).eq e6).eq e7).eq e8) ⟨29, f, f2.trans (congrArg some q1), rfl, by rw [q2 0 (by decide), sI_o (by decide), sI_s], by rw [q2 2 (by decide), sI_s]⟩ (ThQ.pre hQ1 pf3 (by omega) (by omega)) (XFn.pre hE1 pf3 XD.refl hTD hR (by omega))
    · -- a check
      have h121 : lxt T p = 121 := by
        rcases hw with e | e | e
        · exact absurd e h117
        · exact absurd e h118
        · exact e
      rw [if_neg h118]
      have hQ1 : ThQ G A T n F D ξ p (x + 500) isCg (if lxt T p = 100 then ps_b (ps_under T p1 N1) fun ab p2 N2 => ps_b (ps_brace T (ps_mem T noC) p2 N2) fun ms p3 N3 => ps_ok (.inl (nI a, ab, ms)) p3 N3
        else if lxt T p = 116 then ps_b (ps_brace T (ps_edit T) p1 N1) fun es p2 N2 => ps_ok (.inr (.inl (nI a, es))) p2 N2
        else if lxt T p = 121 then ps_b (ps_xp T p1 N1) fun e p2 N2 => ps_end T (.inr (.inr (.inr (.inr (nI a, e))))) p2 N2
        else if lxt T p = 118 then ps_b (ps_under T p1 N1) fun ab p2 N2 => ps_end T (.inr (.inr (.inr (.inl (nI a, ab))))) p2 N2
        else ps_end T (.inr (.inr (.inl (nI a)))) p1 N1) Q := hQ
      have hE1 : XFn G A T n F D ξ (x - 100) (if lxt T p = 100 then ps_b (ps_under T p1 N1) fun ab p2 N2 => ps_b (ps_brace T (ps_mem T noC) p2 N2) fun ms p3 N3 => ps_ok (.inl (nI a, ab, ms) : Chg) p3 N3
        else if lxt T p = 116 then ps_b (ps_brace T (ps_edit T) p1 N1) fun es p2 N2 => ps_ok (.inr (.inl (nI a, es))) p2 N2
        else if lxt T p = 121 then ps_b (ps_xp T p1 N1) fun e p2 N2 => ps_end T (.inr (.inr (.inr (.inr (nI a, e))))) p2 N2
        else if lxt T p = 118 then ps_b (ps_under T p1 N1) fun ab p2 N2 => ps_end T (.inr (.inr (.inr (.inl (nI a, ab))))) p2 N2
        else ps_end T (.inr (.inr (.inl (nI a)))) p1 N1) E := hE
      rw [if_neg n100, if_neg n116, if_pos h121] at hQ1 hE1
      refine z2 (z2 (X_newO j1 (j := 1) (m := 600 * (n + 1 - p1) + (x + 1179)) ok_30 (by decide) (j6.le (by omega)) ⟨by omega, by omega⟩ rfl fun D2 ξ3 σ3 i xd ni nn ri h2 p2 s2 e7 z1 z2 c2 => ?_))
      have hqi : ∀ q, D.2.2 q → q ≠ i := fun q hq e => ni (e ▸ hq)
      refine x_gr h2.1.1 (xd _ _ _ r1) (by decide) e7 (x_o h2.1.1 (xd _ _ _ r1) (by decide) (X_expr (d := d + 5) hG (Nat.le_refl 12) (by omega) p1 N1 F2 D2 ξ3 σ3 (x + 1179) _ E h2 ((congrFun (s2 1 hR.2.1.1).1 4).trans h24) (by omega) c2 (fun t p3 N3 e3 F4 ξ4 σ4 w k1 k2 k3 k4 k5 k6 k7 => ?_) fun kd q N' e3 => (hE1 kd q N' (by unfold ps_xp; rw [e3]; rfl)).pre (pf2.trans p2) xd hTD hR (by omega)))
      unfold ps_xp at hQ1 hE1
      rw [e3] at hQ1 hE1
      refine W_X33_init_f (x_pr k1.1.1 ri (by decide) fun σ5 H5 e5 => W_X27_init_f (d := d + 17) (x_pr H5 ri (by decide) fun σ6 H6 e6 => x_p H6 ri (by decide) fun σ7 H7 e7 => x_pr H7 ri (by decide) fun σ8 H8 e8 => ?_))
      obtain ⟨F', f1, f2, f3, f4, f5, f6⟩ := X_fin (k1.down xd hTD hR) xd ni ri (fun q hq => (((sR_sc (hqi q hq)).trans (sR_sc (hqi q hq))).trans (sI_sc (hqi q hq))).trans (sR_sc (hqi q hq))) H8 (tf_of (by decide) fun k hk => by
        have hk5 : k = 1 ∨ k = 3 := by simpa [tfs] using hk
        rcases hk5 with e9 | e9
        · subst e9
          rw [xR_sR, if_neg (by decide), xR_sI, xR_sR, if_pos rfl]
        · subst e9
          rw [xR_sR, if_neg (by decide), xR_sI, xR_sR, if_neg (by decide), xR_sR, if_pos rfl])
      obtain ⟨f, q1, q2, q3⟩ := xE_f (c := 30) (i := i) (ξ := xs_sR (xs_sI (xs_sR (xs_sR ξ4 i 3 (some (A 0))) i 1 (some (A 0))) i 0 (nI a)) i 2 (some w)) (by decide)
      have pf3 := ((pf2.trans p2).trans (k2.less xd)).trans f4
      exact X_ch137 (d := d + 9) (x := x + 1179) (c := .inr (.inr (.inr (.inr (nI a, t))))) hG f3 (f5.trans k3) (((((k6.eq e5).eq e6).eq e7).eq e8).le (by omega)) ⟨30, f, f2.trans (congrArg some q1), rfl, by rw [q2 0 (by decide), xI_sR, sI_s], w, by rw [q3 2 (by decide), sR_s], xT.mono f1 t _ _ _ _ _ k7⟩ (ThQ.pre hQ1 pf3 (by omega) (by omega)) (XFn.pre hE1 pf3 XD.refl hTD hR (by omega))
  by_cases h117 : lxt T p = 117
  · have := b69 (fun _ _ _ => ps_f 0 0 N) (Or.inl h117)
    rw [if_pos h117] at this ⊢
    exact y1 this
  by_cases h118 : lxt T p = 118
  · have := b69 (fun _ _ _ => ps_f 0 0 N) (Or.inr (Or.inl h118))
    rw [if_neg h117, if_pos h118] at this ⊢
    exact z1 (y1 this)
  rw [if_neg h117, if_neg h118]
  refine z1 (z1 (x_o h.1.1 r1 (by decide) (X_isWord h hG (k := 21) (by decide) ?_)))
  rw [show nI (100 + 21) = (121 : Int32) from rfl]
  by_cases h121 : lxt T p = 121
  · have := b69 (fun _ _ _ => ps_f 0 0 N) (Or.inr (Or.inr h121))
    rw [if_neg h117, if_neg h118] at this
    rw [if_pos h121]
    exact y1 this
  · rw [if_neg h121]
    refine z1 (x_o h.1.1 r1 (by decide) (h.bad (d := d + 18) (x := x) ((hE 1 _ N ?_).pre pf.refl XD.refl hTD hR (by omega)) (hcr.le (by omega))))
    unfold ps_change
    rw [if_pos ?_]
    intro h9
    rcases h9 with h9 | h9 | h9
    · exact n100 h9
    · obtain ⟨k, k1, k2, k3⟩ := (i7 (t := lxt T p) (a := 116) (b := 118) (by decide) (by decide)).mp h9
      have : k = 116 ∨ k = 117 ∨ k = 118 := by omega
      rcases this with e | e | e
      · subst e; exact n116 k3
      · subst e; exact h117 k3
      · subst e; exact h118 k3
    · exact h121 h9
end
