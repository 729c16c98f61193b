set_option maxRecDepth 100000
section
variable {G : am_G} {A : Nat → Nat} {T : Nat → Int32} {n d p : Nat} {N : ps_N} {F : am_H} {D : xs_D} {ξ : xs_X} {σ : am_S}
/-- a plain statement -/
theorem X_plain {r x : Nat} (hG : GK G) (hr : r ≤ 12) (hd : 4 * r ≤ d) (h : XI G A T n p N F D ξ σ) (h4 : xI ξ 1 4 = nI (12 - r)) (hx : 60 ≤ x) (hcr : cr G (600 * (n + 1 - p) + x) σ) (hok : lxt T p = 2 ∨ (106 ≤ lxt T p ∧ lxt T p ≤ 112)) (h112 : ¬ lxt T p = 112) {Q : Option Nat → am_S → Prop} {E : Nat → am_S → Prop} (hQ : PlQ G A T n F D ξ p x isSt (ps_plain T r p N) Q) (hE : XFn G A T n F D ξ (x - 21) (ps_plain T r p N) E) : W_X4_plain G (d + 15) (A 1) σ Q E := by
  have hTD := h.1.2.1
  have hR := h.1.2.2.1
  have r1 := hR.2.1
  obtain ⟨t4, t2, t0, tv⟩ := h.tok
  have hi := i7 (t := lxt T p) (a := 106) (b := 112) (by decide) (by decide)
  unfold ps_plain at hQ hE
  refine W_X4_plain_f (x_gi h.1.1 r1 (by decide) rfl ⟨fun n2 => ?_, fun c2 => ?_⟩)
  · have n2' : ¬ lxt T p = 2 := fun e => n2 (t2.mpr e)
    rw [if_neg n2'] at hQ hE
    refine x_o h.1.1 r1 (by decide) (X_takesWord (d := d + 5) (k := 6) h hG (by decide) hcr (fun e F1 ξ1 σ1 g1 g2 g3 g4 g5 g6 => y2 ?_) fun n106 => z2 ?_)
    · have e' : lxt T p = 106 := e
      rw [if_pos e'] at hQ hE
      exact X_giv (x := x + 590) hG hr hd g1 (g3.trans h4) (by omega) g6 (Or.inl rfl) (mk9 := Term.length) (fun F e a r f k1 k2 k3 k4 => ⟨f, r, k1, k2, k3, k4⟩) (hQ.pre g2 g3 g4 (by omega) (by omega)) (hE.pre g2 XD.refl hTD hR (by omega))
    have n106' : ¬ lxt T p = 106 := n106
    rw [if_neg n106'] at hQ hE
    refine x_o h.1.1 r1 (by decide) (X_takesWord (d := d + 5) (k := 7) h hG (by decide) hcr (fun e F1 ξ1 σ1 g1 g2 g3 g4 g5 g6 => y2 ?_) fun n107 => z2 ?_)
    · have e' : lxt T p = 107 := e
      rw [if_pos e'] at hQ hE
      exact X_giv (x := x + 590) hG hr hd g1 (g3.trans h4) (by omega) g6 (Or.inr rfl) (mk9 := Term.sum) (fun F e a r f k1 k2 k3 k4 => ⟨f, r, k1, k2, k3, k4⟩) (hQ.pre g2 g3 g4 (by omega) (by omega)) (hE.pre g2 XD.refl hTD hR (by omega))
    have n107' : ¬ lxt T p = 107 := n107
    rw [if_neg n107'] at hQ hE
    refine x_o h.1.1 r1 (by decide) (X_takesWord (d := d + 5) (k := 8) h hG (by decide) hcr (fun e F1 ξ1 σ1 g1 g2 g3 g4 g5 g6 => y2 ?_) fun n108 => z2 ?_)
    · have e' : lxt T p = 108 := e
      rw [if_neg (by rw [e']; decide), if_neg (by rw [e']; decide), if_pos e'] at hQ
      exact X_above (d := d + 12) (x := x + 590) g1 (by omega) g6 (hQ.pre g2 g3 g4 (by omega) (by omega))
    have n108' : ¬ lxt T p = 108 := n108
    refine x_o h.1.1 r1 (by decide) (X_takesWord (d := d + 5) (k := 11) h hG (by decide) hcr (fun e F1 ξ1 σ1 g1 g2 g3 g4 g5 g6 => y2 ?_) fun n111 => z2 ?_)
    · have e' : lxt T p = 111 := e
      rw [if_neg (by rw [e']; decide), if_neg (by rw [e']; decide), if_neg (by rw [e']; decide)] at hQ
      exact X_rests (d := d + 12) (x := x + 590) g1 (by omega) g6 (hQ.pre g2 g3 g4 (by omega) (by omega))
    have n111' : ¬ lxt T p = 111 := n111
    refine x_o h.1.1 r1 (by decide) (X_takesWord (d := d + 5) (k := 9) h hG (by decide) hcr (fun e F1 ξ1 σ1 g1 g2 g3 g4 g5 g6 => y2 ?_) fun n109 => z2 ?_)
    · have e' : lxt T p = 109 := e
      rw [if_pos e'] at hQ hE
      exact X_doing (d := d + 5) (x := x + 590) hG g1 (by omega) g6 (hQ.pre g2 g3 g4 (by omega) (by omega)) (hE.pre g2 XD.refl hTD hR (by omega))
    have n109' : ¬ lxt T p = 109 := n109
    have e' : lxt T p = 110 := by
      obtain ⟨k, a1, a2, a3⟩ := hi.mp (hok.resolve_left n2')
      obtain rfl | rfl | rfl | rfl | rfl | rfl | rfl : k = 106 ∨ k = 107 ∨ k = 108 ∨ k = 109 ∨ k = 110 ∨ k = 111 ∨ k = 112 := by omega
      · exact absurd a3 n106'
      · exact absurd a3 n107'
      · exact absurd a3 n108'
      · exact absurd a3 n109'
      · exact a3
      · exact absurd a3 n111'
      · exact absurd a3 h112
    rw [if_neg n109', if_pos e'] at hQ hE
    refine x_o h.1.1 r1 (by decide) (h.next (d := d + 6) hG (by rw [e']; decide) hcr fun F1 ξ1 σ1 g1 g2 g3 g4 g5 g6 => x_o g1.1.1 g1.1.2.2.1.2.1 (by decide) ?_)
    exact X_sending (d := d + 5) (x := x + 590) hG g1 (by omega) g6 (hQ.pre g2 g3 g4 (by omega) (by omega)) (hE.pre g2 XD.refl hTD hR (by omega))
  · have c2' : lxt T p = 2 := t2.mp c2
    rw [if_pos c2'] at hQ hE
    exact x_o h.1.1 r1 (by decide) (X_sets hG hr hd h h4 (by omega) hcr hQ hE)
end
/-- a reader of statements or blocks: ns is what is open, s how many statements there were -/
def XStm (G : am_G) (A : Nat → Nat) (T : Nat → Int32) (n : Nat) (W : am_S → (Option Nat → am_S → Prop) → (Nat → am_S → Prop) → Prop) (ns : Int32) (e : Nat) (P : am_H → Term → Nat → Prop) (ps : Nat → ps_N → Nat → ps_B) : Prop := ∀ (p : Nat) (N : ps_N) (F : am_H) (D : xs_D) (ξ : xs_X) (σ : am_S) (s x : Nat) (Q : Option Nat → am_S → Prop) (E : Nat → am_S → Prop), XI G A T n p N F D ξ σ → xI ξ 1 4 = ns → xI ξ 1 5 = nI s → s ≤ 60 → 60 ≤ x → cr G (600 * (n + 1 - p) + x) σ → (∀ t s' p' N', ps p N s = ps_ok (t, s') p' N' → ∀ F' ξ' σ' v, XI G A T n p' N' F' D ξ' σ' → pf D F ξ F' ξ' → xI ξ' 1 4 = ns → xI ξ' 1 5 = nI s' → s' ≤ 60 → s + e ≤ s' → p < p' → cr G (600 * (n + 1 - p') + (x + 250)) σ' → P F' t v → Q (some v) σ') → XFn G A T n F D ξ (x - 50) (ps p N s) E → W σ Q E
section
variable {G : am_G} {A : Nat → Nat} {T : Nat → Int32} {n d : Nat}
/-- what is asked of statements up to the brace -/
def BlQ (G : am_G) (A : Nat → Nat) (T : Nat → Int32) (n : Nat) (Fc F0 : am_H) (D : xs_D) (ξ0 : xs_X) (p0 : Nat) (ns : Int32) (i r x s k : Nat) (o : Nat → Option Nat) (res : ps_B) (Q : am_S → Prop) : Prop := ∀ b s' p' N', res = ps_ok (b, s') p' N' → ∀ F' D' ξ' σ' jo oa k' l, XI G A T n p' N' F' D' ξ' σ' → FE Fc F' → XD D D' → ¬ D.2.2 jo → BN D' ξ' i jo r oa k' l → k' ≤ s' → pf D F0 ξ0 F' ξ' → xI ξ' 1 4 = ns → xI ξ' 1 5 = nI s' → s' ≤ 60 → s ≤ s' → p0 < p' → cr G (600 * (n + 1 - p') + x) σ' → (∀ q, q < k → xQ ξ' jo q = o q) → xL F' b (xQ ξ' jo) k k' → Q σ'
theorem X_block_l (hG : GK G) {ns : Int32} {x1 : Int32} {st : Nat → ps_N → Nat → ps_B} (hs : XStm G A T n (fun σ Q E => W_X4_statement G (d + 10) (A 1) x1 σ Q E) ns 1 isSt st) {F0 : am_H} {D : xs_D} {ξ0 : xs_X} {p0 x : Nat} {Q : Option Nat → am_S → Prop} {E : Nat → am_S → Prop} (hTD : TD D) (hR : RR A D) {i r : Nat} (hi : ¬ D.2.2 i) (hx : 200 ≤ x) : ∀ (g p : Nat) (N : ps_N) (F : am_H) (D1 : xs_D) (ξ : xs_X) (σ : am_S) (s jo oa k l : Nat), 1001 ≤ p + g → p0 < p → XI G A T n p N F D1 ξ σ → XD D D1 → ¬ D.2.2 jo → BN D1 ξ i jo r oa k l → k ≤ s → s ≤ 60 → (∀ q, q < k → ∀ b, xQ ξ jo q = some b → ∃ t, isSt F t b) → pf D F0 ξ0 F ξ → xI ξ 1 4 = ns → xI ξ 1 5 = nI s → cr G (600 * (n + 1 - p) + x) σ →
    BlQ G A T n F F0 D ξ0 p0 ns i r x s k (xQ ξ jo) (ps_stmts T st g p N s) (fun σ => Q (some r) σ) → XFn G A T n F0 D ξ0 (x - 110) (ps_stmts T st g p N s) E → B_X4_block_18 G (d + 11) (A 1) x1 (some r) σ Q E
  | 0, p, N, F, D1, ξ, σ, s, jo, oa, k, l, hg, hp0, h, hD, hjo, hc, hks, hs60, hst, hpf, h4, h5, hcr, hQ, hE => by
    have hn : n ≤ 1000 := h.1.2.2.2.2.1
    have := h.2.2.2
    omega
  | g + 1, p, N, F, D1, ξ, σ, s, jo, oa, k, l, hg, hp0, h, hD, hjo, hc, hks, hs60, hst, hpf, h4, h5, hcr, hQ, hE => by
    have hn : n ≤ 1000 := h.1.2.2.2.2.1
    have hpn := h.2.2.2
    have r1 := h.1.2.2.1.2.1
    have hT1 := h.1.2.1
    have hR1 := h.1.2.2.1
    refine B_X4_block_18_f (x_o h.1.1 r1 (by decide) (X_isSign h (t := 325) (Or.inl ⟨by decide, rfl⟩) ?_))
    unfold ps_stmts at hQ hE
    by_cases h125 : lxt T p = 325
    · rw [if_pos h125]
      rw [if_pos h125] at hQ
      refine y1 (x_o h.1.1 r1 (by decide) (h.next (d := d + 2) hG (by rw [h125]; decide) hcr fun F1 ξ1 σ1 g1 g2 g3 g4 g5 g6 => ?_))
      have si := g2.2.1 i hc.1.1 (hR.nin hi)
      have so := g2.2.1 jo hc.2.1.1 (hR.nin hjo)
      exact hQ .thrown s (lxe T p) N rfl F1 D1 ξ1 σ1 jo oa k l g1 g2.1 hD hjo (hc.up XD.refl si so) hks (hpf.trans (g2.less hD)) (g3.trans h4) (g4.trans h5) hs60 (Nat.le_refl _) (by omega) (g6.le (by omega)) (fun q _ => congrFun so.2.2.2.1 q) rfl
    · rw [if_neg h125]
      rw [if_neg h125] at hQ hE
      refine z1 (x_o h.1.1 r1 (by decide) (hs p N F D1 ξ σ s x _ E h h4 h5 hs60 (by omega) hcr (fun t s1 p1 N1 e1 F2 ξ2 σ2 v k1 k2 k3 k4 k5 k6 k7 k8 k9 => ?_) fun kd q N' e1 => (hE kd q N' (by rw [e1]; rfl)).pre hpf hD hTD hR (by omega)))
      rw [e1] at hQ hE
      have hQ1 : BlQ G A T n F F0 D ξ0 p0 ns i r x s k (xQ ξ jo) (ps_b (ps_stmts T st g p1 N1 s1) fun b p2 N2 => ps_ok (Term.add t b.1, b.2) p2 N2) (fun σ => Q (some r) σ) := hQ
      have hE1 : XFn G A T n F0 D ξ0 (x - 110) (ps_b (ps_stmts T st g p1 N1 s1) fun b p2 N2 => ps_ok (Term.add t b.1, b.2) p2 N2) E := hE
      have si := k2.2.1 i hc.1.1 (hR.nin hi)
      have so := k2.2.1 jo hc.2.1.1 (hR.nin hjo)
      have hc2 := hc.up XD.refl si so
      refine x_o k1.1.1 hc2.1 (by decide) (X_blockAdd (d := d + 9) (m := 600 * (n + 1 - p1) + x) k1.1.1 k1.1.2.1 hc2 (by omega) (fun q hq b hb => ?_) k9 (k8.le (by omega)) fun D5 ξ5 σ5 jo' oa' l' xd5 td5 e2 H5 c5 hc5 s5 q5 w5 => ?_)
      · rw [so.2.2.2.1] at hb
        obtain ⟨t', ht'⟩ := hst q hq b hb
        exact ⟨t', ht'.mono k2.1⟩
      have hsD : ∀ q, D.2.2 q → sc ξ2 ξ5 q := fun q hq => s5 q (hD.has hq) (fun e => hi (e ▸ hq)) fun e => hjo (e ▸ hq)
      have njo' : ¬ D.2.2 jo' := e2.elim (fun e => e ▸ hjo) fun h hq => h (hD.has hq)
      have h5' : XI G A T n p1 N1 F2 D5 ξ5 σ5 := k1.up H5 FE.refl xd5 td5 fun j hj => hsD j (by
        rcases hj with e | e | e | e
        · rw [e]; exact hR.1.1
        · rw [e]; exact hR.2.1.1
        · rw [e]; exact hR.2.2.2.1.1
        · rw [e]; exact hR.2.2.2.2.1)
      have hs1 := hsD 1 hR.2.1.1
      have hq9 : ∀ q, q < k → xQ ξ5 jo' q = xQ ξ jo q := fun q hq => (q5 q hq).trans (congrFun so.2.2.2.1 q)
      refine X_block_l (p0 := p0) hG hs hTD hR hi hx g p1 N1 F2 D5 ξ5 σ5 s1 jo' oa' (k + 1) l' (by omega) (by omega) h5' (hD.trans xd5) njo' hc5 (by omega) k5 (fun q hq b hb => ?_) ((hpf.trans (k2.less hD)).trans ⟨FE.refl, fun q hq _ => hsD q hq, fun q _ => congrFun (hsD 0 hR.1.1).1 q, (hsD 0 hR.1.1).2.1⟩) ((congrFun hs1.1 4).trans k3) ((congrFun hs1.1 5).trans k4) c5 (fun b s' p' N' e3 F' D' ξ' σ' jo2 oa2 k' l2 j1 j0 j2 j3 j4 j5 j6 j7 j8 j9 j10 j11 j12 j13 j14 => ?_) fun kd q N' e3 => hE1 kd q N' (by rw [e3]; rfl)
      · by_cases hqk : q = k
        · rw [hqk, w5] at hb
          cases hb
          exact ⟨t, k9⟩
        · rw [hq9 q (by omega)] at hb
          obtain ⟨t', ht'⟩ := hst q (by omega) b hb
          exact ⟨t', ht'.mono k2.1⟩
      · refine hQ1 (Term.add t b) s' p' N' (by rw [e3]; rfl) F' D' ξ' σ' jo2 oa2 k' l2 j1 (k2.1.trans j0) j2 j3 j4 j5 j6 j7 j8 j9 (by omega) j11 j12 (fun q hq => (j13 q (by omega)).trans (hq9 q hq)) ?_
        have := xL.le _ _ _ _ j14
        refine xL_cons (by omega) ((j13 k (by omega)).trans w5) (k9.mono j0) j14
end
