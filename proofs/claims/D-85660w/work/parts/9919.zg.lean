set_option maxRecDepth 100000
section
variable {G : am_G} {A : Nat → Nat} {T : Nat → Int32} {n d x p : Nat} {N : ps_N} {F : am_H} {D : xs_D} {ξ : xs_X} {σ : am_S} {E : Nat → am_S → Prop}
/-- a thing with its Rows is frozen -/
theorem X_thFin {D' : xs_D} (h : XI G A T n p N F D' ξ σ) (hT : TD D) (hR0 : RR A D) (hD : XD D D') {i v c b l cap : Nat} {e : Option Nat} {ws : List Nat} (ri : rl D' i v c) (hi : ¬ D.2.2 i) (hRW : RW G D' ξ b l e cap ws) (hno : ∀ q, rwR b l e q → ¬ D.2.2 q) (hc : c ≠ 7 ∧ c ≠ 33 ∧ c ≠ 116) (ht : tf (xs_E c i ξ) (A 0)) : ∃ F', FE F F' ∧ XI G A T n p N F' D ξ σ ∧ zRW F' b ws ∧ F' v = some (xs_E c i ξ) := by
  have hm : XD (D'.1, D'.2.1, fun q => q = i ∨ D.2.2 q) D' := fun q a t hq => by
    rcases hq.1 with e1 | e1
    · exact ⟨by rw [e1]; exact ri.1, hq.2⟩
    · exact ⟨hD.has e1, hq.2⟩
  have hm2 : XD D (D'.1, D'.2.1, fun q => q = i ∨ D.2.2 q) := fun q a t hq => ⟨Or.inr hq.1, (hD _ _ _ hq).2⟩
  obtain ⟨F1, f1, H1, z1⟩ := X_rwF h.1.1 hm hRW (fun q hq h9 => by
    rcases h9 with e1 | e1
    · rw [e1] at hq; exact hRW.ne ri hc hq
    · exact hno q hq e1)
  obtain ⟨F2, f2, f3, H2⟩ := X_frz1 H1 hm2 hi (show rl (D'.1, D'.2.1, fun q => q = i ∨ D.2.2 q) i v c from ⟨Or.inl rfl, ri.2⟩) (fun h9 hh => by
    rw [← hh.2.1, (hm2 _ _ _ hR0.1).2.1]
    exact ht)
  exact ⟨F2, f1.trans f2, (h.down hD hT hR0).up H2 (f1.trans f2) XD.refl hT fun _ _ => sc.refl, z1.mono f2, f3⟩
/-- what is above, in a patch -/
theorem X_under_n (hG : GK G) (h : XI G A T n p N F D ξ σ) (hcr : cr G (600 * (n + 1 - p) + x) σ) {Q : Int32 → am_S → Prop} (hy : ∀ ab p' N', ps_under T p N = ps_ok ab p' N' → ∀ F' ξ' σ', XI G A T n p' N' F' D ξ' σ' → pf D F ξ F' ξ' → xI ξ' 1 4 = xI ξ 1 4 → p ≤ p' → cr G (600 * (n + 1 - p') + x) σ' → Q (oN ab) σ') (hn : XFn G A T n F D ξ x (ps_under T p N) E) : W_X4_under G (d + 10) (A 1) none σ Q E := by
  have hTD := h.1.2.1
  have hR := h.1.2.2.1
  unfold ps_under at hy hn
  refine W_X4_under_f (x_o h.1.1 hR.2.1 (by decide) (X_takesWord (d := d) (k := 1) (x := x) h hG (by decide) hcr (fun e1 F1 ξ1 σ1 g1 g2 g3 g4 g5 g6 => y1 ?_) fun e1 => z1 ?_))
  · have e101 : lxt T p = 101 := e1
    rw [if_pos e101] at hy hn
    refine x_o g1.1.1 g1.1.2.2.1.2.1 (by decide) (X_name (d := d + 5) (x := x) g1 hG (g6.le (by omega)) (fun a p' N' e2 e3 e4 ha F2 ξ2 σ2 j1 j2 j3 j4 j5 => ?_) fun kd q N' e2 => (hn kd q N' (by rw [e2]; rfl)).pre g2 XD.refl hTD hR (Nat.le_refl _))
    subst e4
    refine ⟨fun _ => x_o j1.1.1 j1.1.2.2.1.2.1 (by decide) (j1.next (d := d + 1) (x := x + 590) hG (by rw [e3]; decide) (g6.eq j5) fun F3 ξ3 σ3 k1 k2 k3 k4 k5 k6 => ?_), fun c => absurd rfl c⟩
    exact hy (some (nI a)) _ N' (by rw [e2]; rfl) F3 ξ3 σ3 k1 ((g2.trans j2).trans k2) (k3.trans (j3.trans g3)) (by omega) (k6.le (by omega))
  · have e101 : ¬ lxt T p = 101 := e1
    rw [if_neg e101] at hy
    exact hy none p N rfl F ξ σ h pf.refl rfl (Nat.le_refl _) (hcr.le (by omega))
/-- a kind that comes -/
theorem X_comes (hG : GK G) (hd : 48 ≤ d) (he : ∀ p, 1000 ≤ p → T p = -1) (h : XI G A T n p N F D ξ σ) (h4 : xI ξ 1 4 = nI 0) (hx : 200 ≤ x) (hcr : cr G (600 * (n + 1 - p) + x) σ) {Q : Option Nat → am_S → Prop} (hQ : ThQ G A T n F D ξ p x isCg (ps_b (ps_name T p N) fun n p1 N1 => ps_b (ps_under T p1 N1) fun ab p2 N2 => ps_b (ps_brace T (ps_mem T noC) p2 N2) fun ms p3 N3 => ps_ok (.inl (nI n, ab, ms) : Chg) p3 N3) Q) (hE : XFn G A T n F D ξ (x - 100) (ps_b (ps_name T p N) fun n p1 N1 => ps_b (ps_under T p1 N1) fun ab p2 N2 => ps_b (ps_brace T (ps_mem T noC) p2 N2) fun ms p3 N3 => ps_ok (.inl (nI n, ab, ms) : Chg) p3 N3) E) : W_X4_comes G (d + 19) (A 1) σ Q E := by
  have hTD := h.1.2.1
  have hR := h.1.2.2.1
  have r1 := hR.2.1
  refine W_X4_comes_f (x_o h.1.1 r1 (by decide) (X_takesName (d := d + 9) (x := x) h hG hcr (fun a p1 N1 e1 ha F1 ξ1 σ1 g1 g2 g3 g4 g5 g6 => ?_) fun kd q N' e1 => (hE kd q N' (by rw [e1]; rfl)).pre pf.refl XD.refl hTD hR (by omega)))
  rw [e1] at hQ hE
  have hQ1 : ThQ G A T n F D ξ p x isCg (ps_b (ps_under T p1 N1) fun ab p2 N2 => ps_b (ps_brace T (ps_mem T noC) p2 N2) fun ms p3 N3 => ps_ok (.inl (nI a, ab, ms) : Chg) p3 N3) Q := hQ
  have hE1 : XFn G A T n F D ξ (x - 100) (ps_b (ps_under T p1 N1) fun ab p2 N2 => ps_b (ps_brace T (ps_mem T noC) p2 N2) fun ms p3 N3 => ps_ok (.inl (nI a, ab, ms) : Chg) p3 N3) E := hE
  refine X_newO g1 (j := 2) (m := 600 * (n + 1 - p1) + (x + 580)) ok_25 (by decide) (g6.le (by omega)) ⟨by omega, by omega⟩ rfl fun D2 ξ2 σ2 i xd ni nn ri h2 p2 s2 e7 z1 z2 c2 => ?_
  refine x_gr h2.1.1 (xd _ _ _ r1) (by decide) e7 (x_o h2.1.1 (xd _ _ _ r1) (by decide) (X_under_n (d := d + 8) (x := x + 580) hG h2 c2 (fun ab p2' N2 e2 F3 ξ3 σ3 j1 j2 j3 j4 j5 => ?_) fun kd q N' e2 => (hE1 kd q N' (by rw [e2]; rfl)).pre (g2.trans p2) xd hTD hR (by omega)))
  rw [e2] at hQ1 hE1
  have hQ2 : ThQ G A T n F D ξ p x isCg (ps_b (ps_brace T (ps_mem T noC) p2' N2) fun ms p3 N3 => ps_ok (.inl (nI a, ab, ms) : Chg) p3 N3) Q := hQ1
  have hE2 : XFn G A T n F D ξ (x - 100) (ps_b (ps_brace T (ps_mem T noC) p2' N2) fun ms p3 N3 => ps_ok (.inl (nI a, ab, ms) : Chg) p3 N3) E := hE1
  refine W_X28_init_f (x_pr j1.1.1 ri (by decide) fun σ4 H4 e4 => W_X27_init_f (d := d + 16) (x_pr H4 ri (by decide) fun σ5 H5 e5 => x_p H5 ri (by decide) fun σ6 H6 e6 => ?_))
  have s6 : ∀ q, q ≠ i → sc ξ3 (xs_sI (xs_sR (xs_sR ξ3 i 4 (some (A 0))) i 1 (some (A 0))) i 0 (nI a)) q := fun q hq => ((sR_sc hq).trans (sR_sc hq)).trans (sI_sc hq)
  refine X_rowsNew (d := d + 13) (m := 600 * (n + 1 - p2') + (x + 570)) H6 hG j1.1.2.1 ((((j5.eq e4).eq e5).eq e6).le (by omega)) fun D7 ξ7 σ7 b l xd7 td7 nb nl hbl hRW H7 s7 c7 => ?_
  have ri7 := xd7 _ _ _ ri
  refine x_pr H7 ri7 (by decide) fun σ8 H8 e8 => x_p H8 ri7 (by decide) fun σ9 H9 e9 => ?_
  have hin : i ≠ 2000 + b ∧ i ≠ 2000 + l := ⟨fun e => nb (e ▸ ri.1), fun e => nl (e ▸ ri.1)⟩
  have s9 : ∀ q, q ≠ i → sc ξ7 (xs_sI (xs_sR ξ7 i 3 (some b)) i 2 (oN ab)) q := fun q hq => (sR_sc hq).trans (sI_sc hq)
  have hq2 : ∀ q, D.2.2 q → q ≠ i := fun q hq e => ni (e ▸ hq)
  have sD : ∀ q, D.2.2 q → sc ξ3 (xs_sI (xs_sR ξ7 i 3 (some b)) i 2 (oN ab)) q := fun q hq => ((s6 q (hq2 q hq)).trans (s7 q (xd.has hq))).trans (s9 q (hq2 q hq))
  have hX9 : XI G A T n p2' N2 F3 D7 (xs_sI (xs_sR ξ7 i 3 (some b)) i 2 (oN ab)) σ9 := j1.up H9 FE.refl xd7 td7 fun j hj => sD j (by
    rcases hj with e | e | e | e
    · rw [e]; exact hR.1.1
    · rw [e]; exact hR.2.1.1
    · rw [e]; exact hR.2.2.2.1.1
    · rw [e]; exact hR.2.2.2.2.1)
  have hRW9 : RW G D7 (xs_sI (xs_sR ξ7 i 3 (some b)) i 2 (oN ab)) b l none 0 [] := hRW.up XD.refl fun q hq => s9 q fun e => by
    rcases hq with h9 | h9 | ⟨t, h9, _⟩
    · exact hin.1 (e ▸ h9)
    · exact hin.2 (e ▸ h9)
    · cases h9
  have pf9 : pf D F ξ F3 (xs_sI (xs_sR ξ7 i 3 (some b)) i 2 (oN ab)) := ((g2.trans p2).trans (j2.less xd)).trans (pf.own hR sD)
  have h49 : xI (xs_sI (xs_sR ξ7 i 3 (some b)) i 2 (oN ab)) 1 4 = nI 0 := (congrFun (sD 1 hR.2.1.1).1 4).trans (j3.trans ((congrFun (s2 1 hR.2.1.1).1 4).trans (g3.trans h4)))
  unfold ps_brace at hQ2 hE2
  refine x_o H9 (xd7 _ _ _ (xd _ _ _ r1)) (by decide) (X_needs (d := d + 8) (x := x + 570) hX9 hG (c := 123) (by decide) ((c7.eq e8).eq e9) (fun e3 F10 ξ10 σ10 k1 k2 k3 k4 k5 k6 => ?_) fun kd q N3 e3 => (hE2 kd q N3 (by rw [e3]; rfl)).pre pf9 (xd.trans xd7) hTD hR (by omega))
  rw [e3] at hQ2 hE2
  have hn0 : ∀ q, rwR b l none q → ¬ D.2.2 q := fun q hq h9 => by
    rcases hq with h8 | h8 | ⟨t, h8, _⟩
    · exact nb (h8 ▸ xd.has h9)
    · exact nl (h8 ▸ xd.has h9)
    · cases h8
  have pf10 := pf9.trans (k2.less (xd.trans xd7))
  refine X_comes_l (p0 := lxe T p2') (x := x + 570) (ξi := xs_sI (xs_sR ξ7 i 3 (some b)) i 2 (oN ab)) hG hd he hTD hR ni (show xR (xs_sR ξ7 i 3 (some b)) i 3 = some b from sR_s) (by omega) 1001 (lxe T p2') N2 F10 D7 ξ10 σ10 none 0 [] [] (by omega) (by simp) k1 (xd.trans xd7) ri7 (k2.2.1 i ri7.1 nn) (k3.trans h49) pf10 (hRW9.up XD.refl fun q hq => k2.2.1 q (hRW9.has hq).1 (by have := (hRW9.has hq).2; simp; omega)) ⟨rfl, fun q a w h => by simp at h⟩ hn0 (k6.le (by omega)) (fun l' p3 N3 e4 F4 D4 ξ4 σ4 e' cap' ws' m1 m2 m3 m4 m5 m6 m7 m8 m9 m10 m11 => ?_) fun kd q N3 e4 => (hE2 kd q N3 (by show ps_b (ps_list T (ps_mem T noC) 1001 (lxe T p2') N2) _ = _; rw [e4]; rfl)).pre pf.refl XD.refl hTD hR (by omega)
  have hi4R : ∀ k, xR ξ4 i k = if k = 3 then some b else xR (xs_sI (xs_sR (xs_sR ξ3 i 4 (some (A 0))) i 1 (some (A 0))) i 0 (nI a)) i k := fun k => by
    rw [m4.2.1]
    show xR (xs_sR ξ7 i 3 (some b)) i k = _
    rw [xR_sR, (s7 i ri.1).2.1]
  have hi4I : ∀ k, xI ξ4 i k = if k = 2 then oN ab else xI (xs_sI (xs_sR (xs_sR ξ3 i 4 (some (A 0))) i 1 (some (A 0))) i 0 (nI a)) i k := fun k => by
    rw [m4.1, xI_sI]
    show (if k = 2 then oN ab else xI ξ7 i k) = _
    rw [(s7 i ri.1).1]
  obtain ⟨F5, f1, f2, f3, f4⟩ := X_thFin m1 hTD hR m2 m3 ni m6 m8 (by decide) (tf_of (by decide) fun k hk => by
    have hk5 : k = 1 ∨ k = 4 := by simpa [tfs] using hk
    rw [hi4R]
    rcases hk5 with e9 | e9
    · subst e9
      rw [if_neg (by decide), xR_sI, xR_sR, if_pos rfl]
    · subst e9
      rw [if_neg (by decide), xR_sI, xR_sR, if_neg (by decide), xR_sR, if_pos rfl])
  obtain ⟨f, q1, q2, q3⟩ := xE_f (c := 25) (i := i) (ξ := ξ4) (by decide)
  rw [List.nil_append] at m7
  refine hQ2 (.inl (nI a, ab, l')) p3 N3 (by show ps_b (ps_list T (ps_mem T noC) 1001 (lxe T p2') N2) _ = _; rw [e4]; rfl) F5 ξ4 σ4 _ f2 (m5.trans ⟨f1, fun _ _ _ => sc.refl, fun _ _ => rfl, rfl⟩) m9 (by omega) (m11.le (by omega)) ⟨25, f, f4.trans (congrArg some q1), rfl, ?_, ?_, b, ?_, ws', f3, m7.1, fun q a w h1 h2 => (m7.2 q a w h1 h2).mono f1⟩
  · rw [q2 0 (by decide), hi4I, if_neg (by decide), sI_s]
  · rw [q2 2 (by decide), hi4I, if_pos rfl]
  · rw [q3 3 (by decide), hi4R, if_pos rfl]
/-- edits of a kind -/
theorem X_changes (hG : GK G) (hd : 48 ≤ d) (he : ∀ p, 1000 ≤ p → T p = -1) (h : XI G A T n p N F D ξ σ) (h4 : xI ξ 1 4 = nI 0) (hx : 200 ≤ x) (hcr : cr G (600 * (n + 1 - p) + x) σ) {Q : Option Nat → am_S → Prop} (hQ : ThQ G A T n F D ξ p x isCg (ps_b (ps_name T p N) fun n p1 N1 => ps_b (ps_brace T (ps_edit T) p1 N1) fun es p3 N3 => ps_ok (.inr (.inl (nI n, es)) : Chg) p3 N3) Q) (hE : XFn G A T n F D ξ (x - 100) (ps_b (ps_name T p N) fun n p1 N1 => ps_b (ps_brace T (ps_edit T) p1 N1) fun es p3 N3 => ps_ok (.inr (.inl (nI n, es)) : Chg) p3 N3) E) : W_X4_changes G (d + 19) (A 1) σ Q E := by
  have hTD := h.1.2.1
  have hR := h.1.2.2.1
  have r1 := hR.2.1
  refine W_X4_changes_f (X_newO h (j := 1) (m := 600 * (n + 1 - p) + (x - 1)) ok_26 (by decide) (hcr.le (by omega)) ⟨by omega, by omega⟩ rfl fun D2 ξ2 σ2 i xd ni nn ri h2 p2 s2 e7 z1 z2 c2 => ?_)
  refine x_gr h2.1.1 (xd _ _ _ r1) (by decide) e7 (x_o h2.1.1 (xd _ _ _ r1) (by decide) (X_takesName (d := d + 9) (x := x - 1) h2 hG c2 (fun a p1 N1 e1 ha F3 ξ3 σ3 j1 j2 j3 j4 j5 j6 => ?_) fun kd q N' e1 => (hE kd q N' (by rw [e1]; rfl)).pre p2 xd hTD hR (by omega)))
  rw [e1] at hQ hE
  have hQ2 : ThQ G A T n F D ξ p x isCg (ps_b (ps_brace T (ps_edit T) p1 N1) fun es p3 N3 => ps_ok (.inr (.inl (nI a, es)) : Chg) p3 N3) Q := hQ
  have hE2 : XFn G A T n F D ξ (x - 100) (ps_b (ps_brace T (ps_edit T) p1 N1) fun es p3 N3 => ps_ok (.inr (.inl (nI a, es)) : Chg) p3 N3) E := hE
  refine W_X29_init_f (x_pr j1.1.1 ri (by decide) fun σ4 H4 e4 => W_X27_init_f (d := d + 16) (x_pr H4 ri (by decide) fun σ5 H5 e5 => x_p H5 ri (by decide) fun σ6 H6 e6 => ?_))
  have s6 : ∀ q, q ≠ i → sc ξ3 (xs_sI (xs_sR (xs_sR ξ3 i 3 (some (A 0))) i 1 (some (A 0))) i 0 (nI a)) q := fun q hq => ((sR_sc hq).trans (sR_sc hq)).trans (sI_sc hq)
  refine X_rowsNew (d := d + 13) (m := 600 * (n + 1 - p1) + (x + 570)) H6 hG j1.1.2.1 ((((j6.eq e4).eq e5).eq e6).le (by omega)) fun D7 ξ7 σ7 b l xd7 td7 nb nl hbl hRW H7 s7 c7 => ?_
  have ri7 := xd7 _ _ _ ri
  refine x_pr H7 ri7 (by decide) fun σ9 H9 e9 => ?_
  have hin : i ≠ 2000 + b ∧ i ≠ 2000 + l := ⟨fun e => nb (e ▸ ri.1), fun e => nl (e ▸ ri.1)⟩
  have s9 : ∀ q, q ≠ i → sc ξ7 (xs_sR ξ7 i 2 (some b)) q := fun q hq => sR_sc hq
  have hq2 : ∀ q, D.2.2 q → q ≠ i := fun q hq e => ni (e ▸ hq)
  have sD : ∀ q, D.2.2 q → sc ξ3 (xs_sR ξ7 i 2 (some b)) q := fun q hq => ((s6 q (hq2 q hq)).trans (s7 q (xd.has hq))).trans (s9 q (hq2 q hq))
  have hX9 : XI G A T n p1 N1 F3 D7 (xs_sR ξ7 i 2 (some b)) σ9 := j1.up H9 FE.refl xd7 td7 fun j hj => sD j (by
    rcases hj with e | e | e | e
    · rw [e]; exact hR.1.1
    · rw [e]; exact hR.2.1.1
    · rw [e]; exact hR.2.2.2.1.1
    · rw [e]; exact hR.2.2.2.2.1)
  have hRW9 : RW G D7 (xs_sR ξ7 i 2 (some b)) b l none 0 [] := hRW.up XD.refl fun q hq => s9 q fun e => by
    rcases hq with h9 | h9 | ⟨t, h9, _⟩
    · exact hin.1 (e ▸ h9)
    · exact hin.2 (e ▸ h9)
    · cases h9
  have pf9 : pf D F ξ F3 (xs_sR ξ7 i 2 (some b)) := (p2.trans (j2.less xd)).trans (pf.own hR sD)
  have h49 : xI (xs_sR ξ7 i 2 (some b)) 1 4 = nI 0 := (congrFun (sD 1 hR.2.1.1).1 4).trans (j3.trans ((congrFun (s2 1 hR.2.1.1).1 4).trans h4))
  unfold ps_brace at hQ2 hE2
  refine x_o H9 (xd7 _ _ _ (xd _ _ _ r1)) (by decide) (X_needs (d := d + 8) (x := x + 570) hX9 hG (c := 123) (by decide) (c7.eq e9) (fun e3 F10 ξ10 σ10 k1 k2 k3 k4 k5 k6 => ?_) fun kd q N3 e3 => (hE2 kd q N3 (by rw [e3]; rfl)).pre pf9 (xd.trans xd7) hTD hR (by omega))
  rw [e3] at hQ2 hE2
  have hn0 : ∀ q, rwR b l none q → ¬ D.2.2 q := fun q hq h9 => by
    rcases hq with h8 | h8 | ⟨t, h8, _⟩
    · exact nb (h8 ▸ xd.has h9)
    · exact nl (h8 ▸ xd.has h9)
    · cases h8
  have pf10 := pf9.trans (k2.less (xd.trans xd7))
  refine X_changes_l (p0 := lxe T p1) (x := x + 570) (ξi := xs_sR ξ7 i 2 (some b)) hG hd he hTD hR ni sR_s (by omega) 1001 (lxe T p1) N1 F10 D7 ξ10 σ10 none 0 [] [] (by omega) (by simp) k1 (xd.trans xd7) ri7 (k2.2.1 i ri7.1 nn) (k3.trans h49) pf10 (hRW9.up XD.refl fun q hq => k2.2.1 q (hRW9.has hq).1 (by have := (hRW9.has hq).2; simp; omega)) ⟨rfl, fun q a w h => by simp at h⟩ hn0 (k6.le (by omega)) (fun l' p3 N3 e4 F4 D4 ξ4 σ4 e' cap' ws' m1 m2 m3 m4 m5 m6 m7 m8 m9 m10 m11 => ?_) fun kd q N3 e4 => (hE2 kd q N3 (by show ps_b (ps_list T (ps_edit T) 1001 (lxe T p1) N1) _ = _; rw [e4]; rfl)).pre pf.refl XD.refl hTD hR (by omega)
  have hi4R : ∀ k, xR ξ4 i k = if k = 2 then some b else xR (xs_sI (xs_sR (xs_sR ξ3 i 3 (some (A 0))) i 1 (some (A 0))) i 0 (nI a)) i k := fun k => by
    rw [m4.2.1, xR_sR, (s7 i ri.1).2.1]
  have hi4I : ∀ k, xI ξ4 i k = xI (xs_sI (xs_sR (xs_sR ξ3 i 3 (some (A 0))) i 1 (some (A 0))) i 0 (nI a)) i k := fun k => by
    rw [m4.1]
    show xI ξ7 i k = _
    rw [(s7 i ri.1).1]
  obtain ⟨F5, f1, f2, f3, f4⟩ := X_thFin m1 hTD hR m2 m3 ni m6 m8 (by decide) (tf_of (by decide) fun k hk => by
    have hk5 : k = 1 ∨ k = 3 := by simpa [tfs] using hk
    rw [hi4R]
    rcases hk5 with e9 | e9
    · subst e9
      rw [if_neg (by decide), xR_sI, xR_sR, if_pos rfl]
    · subst e9
      rw [if_neg (by decide), xR_sI, xR_sR, if_neg (by decide), xR_sR, if_pos rfl])
  obtain ⟨f, q1, q2, q3⟩ := xE_f (c := 26) (i := i) (ξ := ξ4) (by decide)
  rw [List.nil_append] at m7
  refine hQ2 (.inr (.inl (nI a, l'))) p3 N3 (by show ps_b (ps_list T (ps_edit T) 1001 (lxe T p1) N1) _ = _; rw [e4]; rfl) F5 ξ4 σ4 _ f2 (m5.trans ⟨f1, fun _ _ _ => sc.refl, fun _ _ => rfl, rfl⟩) m9 (by omega) (m11.le (by omega)) ⟨26, f, f4.trans (congrArg some q1), rfl, ?_, b, ?_, ws', f3, m7.1, fun q a w h1 h2 => (m7.2 q a w h1 h2).mono f1⟩
  · rw [q2 0 (by decide), hi4I, sI_s]
  · rw [q3 2 (by decide), hi4R, if_pos rfl]
end
