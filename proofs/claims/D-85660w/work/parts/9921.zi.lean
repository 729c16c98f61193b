set_option maxRecDepth 100000
section
variable {G : am_G} {A : Nat → Nat} {T : Nat → Int32} {n d x : Nat}
/-- what is asked of a patch that is read -/
def PtQ (G : am_G) (A : Nat → Nat) (T : Nat → Int32) (n : Nat) (F0 : am_H) (D0 : xs_D) (ξ0 : xs_X) (b l : Nat) (x : Nat) (cs : List Chg) (res : ps_R (List Chg)) (Q : Option Nat → am_S → Prop) : Prop := ∀ l' p' N', res = ps_ok l' p' N' → ∀ F' D' ξ' σ' e' cap' ws', XI G A T n p' N' F' D' ξ' σ' → XD D0 D' → pf D0 F0 ξ0 F' ξ' → RW G D' ξ' b l e' cap' ws' → LsR isCg F' ws' (cs ++ l') → (∀ q, rwR b l e' q → ¬ D0.2.2 q) → cr G x σ' → Q (some b) σ'
/-- changes up to the end -/
theorem X_patch_l (hG : GK G) (hd : 48 ≤ d) (he : ∀ p, 1000 ≤ p → T p = -1) {F0 : am_H} {D0 : xs_D} {ξ0 : xs_X} (hT0 : TD D0) (hR0 : RR A D0) {b l p0 : Nat} (hx : 200 ≤ x) {Q : Option Nat → am_S → Prop} {E : Nat → am_S → Prop} : ∀ (g p : Nat) (N : ps_N) (F : am_H) (D : xs_D) (ξ : xs_X) (σ : am_S) (e : Option Nat) (cap : Nat) (ws : List Nat) (cs : List Chg), 1001 ≤ p + g → 3 * ws.length + p0 ≤ p → XI G A T n p N F D ξ σ → XD D0 D → xI ξ 1 4 = nI 0 → pf D0 F0 ξ0 F ξ → RW G D ξ b l e cap ws → LsR isCg F ws cs → (∀ q, rwR b l e q → ¬ D0.2.2 q) → cr G (600 * (n + 1 - p) + x) σ → PtQ G A T n F0 D0 ξ0 b l x cs (ps_patch T g p N) Q → XFn G A T n F0 D0 ξ0 (x - 100) (ps_patch T g p N) E → B_X4_patch_12 G (d + 21) (A 1) (some b) σ Q E
  | 0, p, N, F, D, ξ, σ, e, cap, ws, cs, hg, hp0, h, hD0, h4, hpf, hR, hLs, hno, hcr, hQ, hE => by
    have hn : n ≤ 1000 := h.1.2.2.2.2.1
    have := h.2.2.2
    omega
  | g + 1, p, N, F, D, ξ, σ, e, cap, ws, cs, hg, hp0, h, hD0, h4, hpf, hR, hLs, hno, hcr, hQ, hE => by
    have r1 := h.1.2.2.1.2.1
    have hn : n ≤ 1000 := h.1.2.2.2.2.1
    have hpn : p ≤ n := h.2.2.2
    have hN40 : N.1 ≤ 40 := h.2.1.2.1
    unfold ps_patch at hQ hE
    refine B_X4_patch_12_f (x_o h.1.1 r1 (by decide) (X_change (x := x) hG hd he h h4 hx hcr (fun c p' N' e1 F1 ξ1 σ1 w g1 g2 g3 g4 g5 g6 => ?_) fun kd q N' e1 => (hE kd q N' (by rw [e1]; rfl)).pre hpf hD0 hT0 hR0 (by omega)))
    obtain ⟨-, -, hp3, -⟩ := ps_change_is he e1 (by omega) hN40
    rw [e1] at hQ hE
    have hQ1 : PtQ G A T n F0 D0 ξ0 b l x cs (if lxt T p' = 0 then ps_ok [c] p' N' else ps_b (ps_patch T g p' N') fun l p2 N2 => ps_ok (c :: l) p2 N2) Q := hQ
    have hE1 : XFn G A T n F0 D0 ξ0 (x - 100) (if lxt T p' = 0 then ps_ok [c] p' N' else ps_b (ps_patch T g p' N') fun l p2 N2 => ps_ok (c :: l) p2 N2) E := hE
    have hR1 : RW G D ξ1 b l e cap ws := hR.up XD.refl fun q hq => g2.2.1 q (hR.has hq).1 (by have := (hR.has hq).2; simp; omega)
    refine x_o g1.1.1 hR1.1 (by decide) (X_lsAdd (d := d + 12) (m := 600 * (n + 1 - p') + x) (P := isCg) (fun _ _ _ _ h => h.okw) hG g1 hD0 hR0 hR1 (hLs.mono (fun _ _ _ _ hF h => h.mono hF) g2.1) hno (by omega) g6 (g5.le (by omega)) fun D' ξ' σ' e' cap' xd k1 k2 k3 k4 k5 k6 => ?_)
    have hs0 : ∀ q, D0.2.2 q → sc ξ1 ξ' q := fun q hq => k5 q (hD0.has hq) fun hr => hno q hr hq
    have pf1 : pf D0 F0 ξ0 F1 ξ' := (hpf.trans (g2.less hD0)).trans (pf.own hR0 hs0)
    refine x_gi k1.1.1 k1.1.2.2.1.2.1 (by decide) rfl ⟨fun hne => ?_, fun h0 => ?_⟩
    · have hz : ¬ lxt T p' = 0 := fun e => hne (k1.t0.mpr e)
      rw [if_neg hz] at hQ1 hE1
      refine X_patch_l hG hd he hT0 hR0 hx g p' N' F1 D' ξ' σ' e' cap' (ws ++ [w]) (cs ++ [c]) (by omega) (by rw [List.length_append]; show 3 * (ws.length + 1) + p0 ≤ p'; omega) k1 (hD0.trans xd) ((congrFun (hs0 1 hR0.2.1.1).1 4).trans g3) pf1 k2 k3 k4 k6 (fun l' p2 N2 e2 F2 D2 ξ2 σ2 e2' cap2 ws2 m1 m2 m3 m4 m5 m6 m7 => ?_) fun kd q N2 e2 => hE1 kd q N2 (by rw [e2]; rfl)
      exact hQ1 (c :: l') p2 N2 (by rw [e2]; rfl) F2 D2 ξ2 σ2 e2' cap2 ws2 m1 m2 m3 m4 (by rw [List.append_assoc] at m5; exact m5) m6 m7
    · have hz : lxt T p' = 0 := k1.t0.mp h0
      rw [if_pos hz] at hQ1
      exact hQ1 [c] p' N' rfl F1 D' ξ' σ' e' cap' (ws ++ [w]) k1 (hD0.trans xd) pf1 k2 k3 k4 (k6.le (by omega))
section
variable {N : ps_N} {F : am_H} {D : xs_D} {ξ : xs_X} {σ : am_S}
/-- X reads a patch -/
theorem X_rpatch (hG : GK G) (hd : 48 ≤ d) (he : ∀ p, 1000 ≤ p → T p = -1) (hB : XB G A T n F D ξ σ) (hN : XNm G F N ξ) (hcr : cr G (600 * (n + 1) + (x + 310)) σ) {Q : Option Nat → am_S → Prop} {E : Nat → am_S → Prop} (hQ : ∀ cs p' N', ps_patch T 1001 0 N = ps_ok cs p' N' → ∀ F' ξ' σ' b, XI G A T n p' N' F' D ξ' σ' → pf D F ξ F' ξ' → zL F' (isCg F') b cs → cr G (x + 200) σ' → Q (some b) σ') (hE : XFn G A T n F D ξ x (ps_patch T 1001 0 N) E) : W_X4_patch G (d + 21) (A 1) σ Q E := by
  have hR := hB.2.2.1
  have hT := hB.2.1
  refine W_X4_patch_f (x_o hB.1 hR.2.1 (by decide) (X_begins (d := d + 11) (x := x + 310) hG hB hN hcr (by omega) fun F1 ξ1 σ1 g1 g2 g3 g4 => ?_))
  refine X_rowsNew (d := d + 16) (m := 600 * (n + 1 - 0) + (x + 300)) g1.1.1 hG g1.1.2.1 (g4.le (by omega)) fun D2 ξ2 σ2 b l xd td nb nl hbl hRW H2 s2 c2 => ?_
  have g1b : XI G A T n 0 N F1 D2 ξ2 σ2 := g1.up H2 FE.refl xd td (g1.s0 s2)
  refine X_patch_l (x := x + 300) (p0 := 0) hG hd he hT hR (by omega) 1001 0 N F1 D2 ξ2 σ2 none 0 [] [] (by omega) (by simp) g1b xd ((congrFun (s2 1 hR.2.1.1).1 4).trans g3) (g2.trans (pf.own hR s2)) hRW ⟨rfl, fun q a w h => by simp at h⟩ (fun q hq h9 => ?_) (c2.le (by omega)) (fun cs p' N' e1 F' D' ξ' σ' e' cap' ws' m1 m2 m3 m4 m5 m6 m7 => ?_) fun kd q N' e1 => (hE kd q N' e1).pre pf.refl XD.refl hT hR (by omega)
  · rcases hq with e | e | ⟨a, e, _⟩
    · rw [e] at h9; exact nb h9
    · rw [e] at h9; exact nl h9
    · cases e
  · obtain ⟨F5, f1, f2, f3⟩ := X_rwF m1.1.1 m2 m4 m6
    rw [List.nil_append] at m5
    exact hQ cs p' N' e1 F5 ξ' σ' b ((m1.down m2 hT hR).up f2 f1 XD.refl hT fun _ _ => sc.refl) (m3.trans ⟨f1, fun _ _ _ => sc.refl, fun _ _ => rfl, rfl⟩) ⟨ws', f3, m5.1, fun q a w h1 h2 => (m5.2 q a w h1 h2).mono f1⟩ (m7.le (by omega))
/-- what is asked of X's patch() -/
def PcQ (G : am_G) (A : Nat → Nat) (F0 : am_H) (D0 : xs_D) (ξ0 : xs_X) (k x : Nat) (res : ps_R (List Chg)) (Q : Int32 → am_S → Prop) : Prop := ∀ cs p' N', res = ps_ok cs p' N' → ∀ F' D' ξ' σ' b pa, FE F0 F' → XD D0 D' → TD D' → XS F' D' ξ' σ' → XNm G F' N' ξ' → rl D' (2000 + pa) pa 24 → ¬ D0.2.2 (2000 + pa) → xR ξ' (2000 + pa) 0 = some b → xI ξ' (2000 + pa) 1 = 0 → xI ξ' (2000 + pa) 2 = 0 → zL F' (isCg F') b cs → (∀ j, xQ ξ' 11 j = if j = k then some pa else xQ ξ0 11 j) → xN ξ' 11 = 6 → (xI ξ' 0 25 = nI (k + 1) ∧ xI ξ' 0 18 = 0 ∧ xI ξ' 0 19 = 0 ∧ xI ξ' 0 20 = -1) → (∀ j, j ∉ [1, 18, 19, 20, 25] → xI ξ' 0 j = xI ξ0 0 j) → xR ξ' 0 = xR ξ0 0 → (∀ r, D0.2.2 r → r ∉ [0, 1, 4, 6, 11] → sc ξ0 ξ' r) → xR ξ' 1 7 = some (A 0) → xN ξ' 6 = 40 → cr G x σ' → Q (nI k) σ'
/-- X's patch() -/
theorem X_patch (hG : GK G) (hd : 48 ≤ d) (he : ∀ p, 1000 ≤ p → T p = -1) (hB : XB G A T n F D ξ σ) (hN : XNm G F N ξ) (h22 : xR ξ 0 22 = some (A 1)) (h24 : xR ξ 0 24 = some (A 11)) (r11 : rl D 11 (A 11) 114) (hn11 : xN ξ 11 = 6) {k : Nat} (h25 : xI ξ 0 25 = nI k) (hk : k < 6) (hcr : cr G (600 * (n + 1) + (x + 400)) σ) {Q : Int32 → am_S → Prop} (hQ : PcQ G A F D ξ k x (ps_patch T 1001 0 N) Q) (hF : PoF G A F D ξ x (ps_patch T 1001 0 N) Q) : W_X0_patch G (d + 22) (A 0) σ Q := by
  have hR := hB.2.2.1
  have hT := hB.2.1
  have r0 := hR.1
  refine W_X0_patch_f (x_o hB.1 r0 (by decide) (W_X0_fine_f (x_p hB.1 r0 (by decide) fun σ1 H1 e1 => x_p H1 r0 (by decide) fun σ2 H2 e2 => ?_)))
  have s2 : ∀ q, q ≠ 0 → sc ξ (xs_sI (xs_sI ξ 0 19 0) 0 20 (-1)) q := fun q hq => (sI_sc hq).trans (sI_sc hq)
  have i2 : ∀ j, j ≠ 19 → j ≠ 20 → xI (xs_sI (xs_sI ξ 0 19 0) 0 20 (-1)) 0 j = xI ξ 0 j := fun j h1 h2 => by rw [sI_o h2, sI_o h1]
  have hB2 : XB G A T n F D (xs_sI (xs_sI ξ 0 19 0) 0 20 (-1)) σ2 := hB.up H2 FE.refl XD.refl hT ⟨i2 18 (by decide) (by decide), rfl, rfl, rfl, rfl, (s2 8 (by decide)).2.2.1⟩
  have hN2 : XNm G F N (xs_sI (xs_sI ξ 0 19 0) 0 20 (-1)) := hN.up FE.refl (i2 1 (by decide) (by decide)) (s2 6 (by decide)).2.2.2.1
  refine x_gi H2 r0 (by decide) ((i2 25 (by decide) (by decide)).trans h25) ⟨fun _ => ?_, fun h9 => ?_⟩
  · refine x_gr H2 r0 (by decide) h24 (x_gi H2 r0 (by decide) ((i2 25 (by decide) (by decide)).trans h25) ?_)
    refine x_new (c := 24) (j := 1) (m := 600 * (n + 1) + (x + 390)) H2 hT ok_24 (by decide) (((hcr.eq e1).eq e2).le (by omega)) ⟨by omega, by omega⟩ rfl fun D3 ξ3 σ3 i xd td ni ri i20 H3 s3 z1 z2 c3 hF3 => ?_
    have hi := td.ro ri i20
    subst hi
    have hR3 : RR A D3 := hR.up xd
    have s30 : sc (xs_sI (xs_sI ξ 0 19 0) 0 20 (-1)) ξ3 0 := s3 0 r0.1
    have hB3 : XB G A T n F D3 ξ3 σ3 := hB2.up H3 FE.refl xd td (xk.of fun j hj => s3 j (by
      rcases hj with e | e | e | e
      · rw [e]; exact hR.1.1
      · rw [e]; exact hR.2.1.1
      · rw [e]; exact hR.2.2.2.1.1
      · rw [e]; exact hR.2.2.2.2.1))
    have hN3 : XNm G F N ξ3 := hN2.up FE.refl (congrFun s30.1 1) (s3 6 hR.2.2.2.1.1).2.2.2.1
    have hq0 : ∀ q, D.2.2 q → q ≠ 0 → sc ξ ξ3 q := fun q hq h0 => (s2 q h0).trans (s3 q hq)
    -- a refusal
    have hE : XFn G A T n F D3 ξ3 x (ps_patch T 1001 0 N) (fun q14 σ13 => f_o σ13 (some q14) [3] (fun _ => B_X0_patch_69 G (d + 22) (A 0) (some q14) σ13 Q)) := fun kd q N' hres F' ξ' σ' a1 a2 a3 a4 a5 a6 => by
      have hF3 : PoF G A F D3 ξ3 x (ps_patch T 1001 0 N) Q := fun k9 q9 N9 hr9 F9 ξ9 σ9 b1 b2 b3 b4 b5 b6 b7 b8 b9 b10 => hF k9 q9 N9 hr9 F9 ξ9 σ9 b1 (b2.cong xd) b3 b4 (fun j hj => by
        simp only [List.mem_cons, List.not_mem_nil, or_false, not_or] at hj
        rw [b5 j (by simp [hj]), s30.1, i2 j hj.2.2.1 hj.2.2.2]) (by rw [b6, s30.2.1]; rfl) (fun r hr hn => by
        have hn' := hn
        simp only [List.mem_cons, List.not_mem_nil, or_false, not_or] at hn
        exact (hq0 r hr hn.1).trans (b7 r (xd.has hr) hn')) b8 b9 b10
      have := X_faulty (d := d + 21) (n := n) (T := T) td hR3 hF3 XD.refl hres F' ξ' σ' a1 a2 a3 a4 a5 a6
      unfold f_o f_c at this ⊢
      dsimp only at this ⊢
      cases hs : σ'.1 (A 4) with
      | none => rw [hs] at this; exact this
      | some e =>
        rw [hs] at this
        cases e with
        | inl y => exact this
        | inr y => exact ⟨this.1, B_X0_patch_69_f this.2⟩
    refine x_gr H3 (xd _ _ _ r0) (by decide) (by rw [s30.2.1]; exact h22) (x_o H3 (xd _ _ _ hR.2.1) (by decide) (X_rpatch (d := d) (x := x) hG hd he hB3 hN3 (c3.le (by omega)) (fun cs p' N' hres F' ξ' σ' b g1 g2 g3 g4 => ?_) hE))
    have ri' : (2000 + σ2.2.1) ∉ [0, 1, 4, 6] := by simp; omega
    have si := g2.2.1 (2000 + σ2.2.1) ri.1 ri'
    have r11' := xd _ _ _ r11
    have s11 := g2.2.1 11 r11'.1 (by decide)
    have hn11' : xN ξ' 11 = 6 := by rw [s11.2.2.2.2, (hq0 11 r11.1 (by decide)).2.2.2.2]; exact hn11
    refine W_X26_init_f (d := d + 20) (x_pr g1.1.1 ri (by decide) fun σ4 H4 e4 => ?_)
    have hi0 : (0 : Nat) ≠ 2000 + σ2.2.1 := by omega
    refine x_sr (n := 6) (q := k) H4 r11' (by decide) hn11' rfl hk (by decide) (fun _ _ => x_k H4 ri (by decide) trivial) fun σ5 H5 e5 => ?_
    have s5 : ∀ q, q ≠ 2000 + σ2.2.1 → q ≠ 11 → sc ξ' (xs_sQ (xs_sR ξ' (2000 + σ2.2.1) 0 (some b)) 11 k (some σ2.2.1)) q := fun q h1 h2 => (sR_sc h1).trans (sQ_sc h2)
    have hI0 : ∀ j, j ∉ [1, 19, 20] → xI ξ' 0 j = xI ξ 0 j := fun j hj => by
      simp only [List.mem_cons, List.not_mem_nil, or_false, not_or] at hj
      rw [g2.2.2.1 j hj.1, s30.1, i2 j hj.2.1 hj.2.2]
    have h25' : xI (xs_sQ (xs_sR ξ' (2000 + σ2.2.1) 0 (some b)) 11 k (some σ2.2.1)) 0 25 = nI k := by
      show xI ξ' 0 25 = nI k
      rw [hI0 25 (by decide), h25]
    refine x_gi H5 (xd _ _ _ r0) (by decide) h25' (x_p H5 (xd _ _ _ r0) (by decide) fun σ6 H6 e6 => x_gi H6 (xd _ _ _ r0) (by decide) (v := nI (k + 1)) (sI_s.trans (nI_1 k)) (x_p H6 (xd _ _ _ r0) (by decide) fun σ7 H7 e7 => ?_))
    have ek : nI (k + 1) - 1 = nI k := by
      rw [show (1 : Int32) = nI 1 from rfl, pk_sub (by omega)]
      congr 1
    rw [ek]
    have s7 : ∀ q, q ≠ 0 → q ≠ 2000 + σ2.2.1 → q ≠ 11 → sc ξ' (xs_sI (xs_sI (xs_sQ (xs_sR ξ' (2000 + σ2.2.1) 0 (some b)) 11 k (some σ2.2.1)) 0 25 (nI k + 1)) 0 18 0) q := fun q h0 h1 h2 => ((s5 q h1 h2).trans (sI_sc h0)).trans (sI_sc h0)
    have hI7 : ∀ j, xI (xs_sI (xs_sI (xs_sQ (xs_sR ξ' (2000 + σ2.2.1) 0 (some b)) 11 k (some σ2.2.1)) 0 25 (nI k + 1)) 0 18 0) 0 j = if j = 18 then 0 else if j = 25 then nI k + 1 else xI ξ' 0 j := fun j => by
      rw [xI_sI, xI_sI]
      rfl
    refine hQ cs p' N' hres F' D3 _ σ7 b σ2.2.1 g2.1 xd td H7 (g1.2.1.up FE.refl ?_ (s7 6 (by decide) (by omega) (by decide)).2.2.2.1) ri ni ?_ ?_ ?_ g3 (fun j => ?_) hn11' ⟨?_, ?_, ?_, ?_⟩ (fun j hj => ?_) ?_ (fun r hr hn => ?_) ?_ ?_ (((((g4.eq e4).eq e5).eq e6).eq e7).le (by omega))
    · rw [hI7, if_neg (by decide), if_neg (by decide)]
    · show xR (xs_sR ξ' (2000 + σ2.2.1) 0 (some b)) (2000 + σ2.2.1) 0 = some b
      exact sR_s
    · rw [(sI_sc (Ne.symm hi0)).1, (sI_sc (Ne.symm hi0)).1]
      show xI ξ' (2000 + σ2.2.1) 1 = 0
      rw [si.1, z1]
    · rw [(sI_sc (Ne.symm hi0)).1, (sI_sc (Ne.symm hi0)).1]
      show xI ξ' (2000 + σ2.2.1) 2 = 0
      rw [si.1, z1]
    · show xQ (xs_sQ (xs_sR ξ' (2000 + σ2.2.1) 0 (some b)) 11 k (some σ2.2.1)) 11 j = _
      by_cases hj : j = k
      · rw [if_pos hj, hj, sQ_s]
      · rw [if_neg hj, sQ_o hj]
        show xQ ξ' 11 j = _
        rw [s11.2.2.2.1, (hq0 11 r11.1 (by decide)).2.2.2.1]
    · rw [hI7, if_neg (by decide), if_pos rfl]; exact nI_1 k
    · rw [hI7, if_pos rfl]
    · rw [hI7, if_neg (by decide), if_neg (by decide), g2.2.2.1 19 (by decide), s30.1, xI_sI, if_neg (by decide), sI_s]
    · rw [hI7, if_neg (by decide), if_neg (by decide), g2.2.2.1 20 (by decide), s30.1, sI_s]
    · simp only [List.mem_cons, List.not_mem_nil, or_false, not_or] at hj
      rw [hI7, if_neg hj.2.1, if_neg hj.2.2.2.2, hI0 j (by simp [hj])]
    · show xR (xs_sR ξ' (2000 + σ2.2.1) 0 (some b)) 0 = xR ξ 0
      rw [(sR_sc hi0).2.1, g2.2.2.2, s30.2.1]
      rfl
    · simp only [List.mem_cons, List.not_mem_nil, or_false, not_or] at hn
      exact ((hq0 r hr hn.1).trans (g2.2.1 r (xd.has hr) (by simp [hn]))).trans (s7 r hn.1 (fun e => ni (e ▸ hr)) hn.2.2.2.2)
    · rw [(s7 1 (by decide) (by omega) (by decide)).2.1]
      exact g1.1.2.2.2.1.2.2.2.1
    · rw [(s7 6 (by decide) (by omega) (by decide)).2.2.2.2]
      exact g1.1.2.2.2.1.2.2.2.2.1
  · exfalso
    have := (nI_eq (a := k) (b := 6) (by omega) (by decide)).mp h9
    omega
/-- a patch too many, X -/
theorem X_patch6 (H : XS F D ξ σ) (r0 : rl D 0 (A 0) 0) (h25 : xI ξ 0 25 = nI 6) {Q : Int32 → am_S → Prop} (hQ : ∀ σ', XS F D (xs_sI (xs_sI (xs_sI ξ 0 19 0) 0 20 (-1)) 0 18 0) σ' → σ'.2 = σ.2 → Q (-1) σ') : W_X0_patch G (d + 1) (A 0) σ Q := by
  refine W_X0_patch_f (x_o H r0 (by decide) (W_X0_fine_f (x_p H r0 (by decide) fun σ1 H1 e1 => x_p H1 r0 (by decide) fun σ2 H2 e2 => x_gi H2 r0 (by decide) (v := nI 6) ?_ ⟨fun h9 => absurd rfl h9, fun _ => x_p H2 r0 (by decide) fun σ3 H3 e3 => hQ σ3 H3 ((e3.trans e2).trans e1)⟩)))
  rw [sI_o (by decide), sI_o (by decide)]
  exact h25
end
end
