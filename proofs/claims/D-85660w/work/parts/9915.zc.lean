set_option maxRecDepth 100000
/-! ===== X: pond() ===== -/
theorem xI_sI {ξ : xs_X} {i k j : Nat} {v : Int32} : xI (xs_sI ξ i k v) i j = if j = k then v else xI ξ i j := by
  by_cases h : j = k
  · rw [if_pos h, h, sI_s]
  · rw [if_neg h, sI_o h]
theorem xI_sR {ξ : xs_X} {i k j q : Nat} {v : Option Nat} : xI (xs_sR ξ i k v) j q = xI ξ j q := rfl
theorem xR_sI {ξ : xs_X} {i k j q : Nat} {v : Int32} : xR (xs_sI ξ i k v) j q = xR ξ j q := rfl
theorem xR_sR {ξ : xs_X} {i k j : Nat} {v : Option Nat} : xR (xs_sR ξ i k v) i j = if j = k then v else xR ξ i j := by
  by_cases h : j = k
  · rw [if_pos h, h, sR_s]
  · rw [if_neg h, sR_o h]
section
variable {G : am_G} {d m : Nat} {F : am_H} {D : xs_D} {ξ : xs_X} {σ : am_S}
/-- an array of references is emptied -/
theorem X_fillN (H : XS F D ξ σ) {i a n : Nat} (ri : rl D i a 115) (hn : xN ξ i = n) (hn9 : n < 2 ^ 31) {Q : am_S → Prop} (hQ : ∀ ξ' σ', XS F D ξ' σ' → (∀ q, q ≠ i → sc ξ ξ' q) → xN ξ' i = n → (∀ q, q < n → xQ ξ' i q = none) → σ'.2 = σ.2 → Q σ') : W_J8_fill_2 G d (some a) none σ Q := by
  have go : ∀ (f j : Nat) (ξ1 : xs_X) (σ1 : am_S) {y : Int32}, j + f = n → y = nI j → XS F D ξ1 σ1 → (∀ q, q ≠ i → sc ξ ξ1 q) → xN ξ1 i = n → (∀ q, q < j → xQ ξ1 i q = none) → σ1.2 = σ.2 → B_J8_fill_2_5 G d (some a) none y (nI n) σ1 Q := fun f => by
    induction f with
    | zero =>
      intro j ξ1 σ1 y hj hy H1 s1 n1 q1 e1
      subst hy
      exact B_J8_fill_2_5_f ⟨fun _ => hQ ξ1 σ1 H1 s1 n1 (fun q hq => q1 q (by omega)) e1, fun c => absurd (nI_le (a := n) (b := j) (by omega) (by omega)) c⟩
    | succ f ih =>
      intro j ξ1 σ1 y hj hy H1 s1 n1 q1 e1
      subst hy
      refine B_J8_fill_2_5_f ⟨fun c => absurd c (nI_ge (a := j) (b := n) (by omega) (by omega)), fun _ => x_sr (n := n) (q := j) H1 ri (by decide) n1 rfl (by omega) hn9 (fun b hb => by cases hb) fun σ2 H2 e2 => ?_⟩
      refine ih (j + 1) _ σ2 (by omega) (nI_1 j) H2 (fun q hq => (s1 q hq).trans (sQ_sc hq)) n1 (fun q hq => ?_) (e2.trans e1)
      by_cases h : q = j
      · rw [h, sQ_s]
      · rw [sQ_o h]; exact q1 q (by omega)
  exact W_J8_fill_2_f (x_al H ri hn (go n 0 ξ σ (by omega) rfl H (fun _ _ => sc.refl) hn (fun q hq => absurd hq (by omega)) rfl))
/-- a draft is flagged -/
theorem DR.flag {fm : Int32 × Int32 × Int32 → Int32} {a c : Nat} {ab v : Int32} {kd : Kd} (h : DR F D ξ fm a c ab kd) : DR F D (xs_sI ξ (2000 + a) 2 v) fm a c ab kd := by
  obtain ⟨a1, a2, a3, a4, a5, a6, a7, a8⟩ := h
  refine ⟨a1, a2, a3, ?_, ?_, ⟨?_, a6.2⟩, ⟨?_, a7.2⟩, ⟨?_, a8.2⟩⟩
  · rw [sI_o (by decide)]; exact a4
  · rw [sI_o (by decide)]; exact a5
  · rw [sI_o (by decide)]; exact a6.1
  · rw [sI_o (by decide)]; exact a7.1
  · rw [sI_o (by decide)]; exact a8.1
theorem PW.flag {b l cap : Nat} {e : Option Nat} {ds : List (Nat × Nat)} {L : List Kd} (h : PW G F D ξ b l e cap ds L) {k : Nat} {dd : Nat × Nat} (hk : ds[k]? = some dd) {v : Int32} : PW G F D (xs_sI ξ (2000 + dd.1) 2 v) b l e cap ds L := by
  have hself : drR dd.1 dd.2 (2000 + dd.1) := Or.inl rfl
  refine ⟨h.1.up XD.refl fun q hq => sI_sc fun e9 => h.2.2.2.2 k dd hk q hq (by rw [e9]; exact hself), h.2.1, fun k' d' kd' h1 h2 => ?_, h.2.2.2.1, h.2.2.2.2⟩
  have hd := h.2.2.1 k' d' kd' h1 h2
  by_cases e9 : k' = k
  · subst e9
    rw [hk] at h1
    cases h1
    exact hd.flag
  · exact hd.up FE.refl XD.refl fun q hq => sI_sc fun e8 => h.2.2.2.1 k k' dd d' (Ne.symm e9) hk h1 (2000 + dd.1) hself (by rw [← e8]; exact hq)
end
/-- the statics, when there were none -/
theorem nfx_nil {L : List Kd} : nfx [] L = L.flatMap fun kd => (kS kd).map fun s => (kN kd, s.1, s.2) := rfl
section
variable {G : am_G} {A : Nat → Nat} {T : Nat → Int32} {n d x : Nat} {N : ps_N}
def PoQ (G : am_G) (A : Nat → Nat) (F0 : am_H) (D0 : xs_D) (ξ0 : xs_X) (x : Nat) (res : ps_R (List Kd)) (Q : Int32 → am_S → Prop) : Prop := ∀ L p' N', res = ps_ok L p' N' → ∀ F' D' ξ' σ' as fs kw fw, FE F0 F' → XD D0 D' → TD D' → XS F' D' ξ' σ' → XNm G F' N' ξ' → (WX F' as L ∧ kAr F' kw as ∧ fAr F' fw fs ∧ FXo D' ξ' fs (nfx [] L) ∧ ∀ v, v ∈ fs → ¬ D0.2.2 (2000 + v)) → (xR ξ' 0 3 = some kw ∧ xR ξ' 0 4 = some fw ∧ xR ξ' 0 27 = none ∧ xR ξ' 0 34 = none) → (xI ξ' 0 6 = 0 ∧ xI ξ' 0 25 = 0 ∧ xI ξ' 0 26 = 0 ∧ xI ξ' 0 37 = -1 ∧ xI ξ' 0 18 = 0 ∧ xI ξ' 0 19 = 0 ∧ xI ξ' 0 20 = -1) → (∀ k, k ∉ [1, 6, 18, 19, 20, 25, 26, 37] → xI ξ' 0 k = xI ξ0 0 k) → (∀ k, k ∉ [3, 4, 27, 34] → xR ξ' 0 k = xR ξ0 0 k) → (∀ r, D0.2.2 r → r ∉ [0, 1, 4, 6, 12] → sc ξ0 ξ' r) → xR ξ' 1 7 = some (A 0) → xN ξ' 6 = 40 → (xN ξ' 12 = 10 ∧ ∀ q, q < 10 → xQ ξ' 12 q = none) → cr G x σ' → Q (nI L.length) σ'
def PoF {α : Type} (G : am_G) (A : Nat → Nat) (F0 : am_H) (D0 : xs_D) (ξ0 : xs_X) (x : Nat) (res : ps_R α) (Q : Int32 → am_S → Prop) : Prop := ∀ k q N', res = ps_f k q N' → ∀ F' ξ' σ', FE F0 F' → XS F' D0 ξ' σ' → XNm G F' N' ξ' → (xI ξ' 0 18 = 0 ∧ xI ξ' 0 19 = k ∧ xI ξ' 0 20 = nI q) → (∀ k, k ∉ [1, 18, 19, 20] → xI ξ' 0 k = xI ξ0 0 k) → xR ξ' 0 = xR ξ0 0 → (∀ r, D0.2.2 r → r ∉ [0, 1, 4, 6] → sc ξ0 ξ' r) → xR ξ' 1 7 = some (A 0) → xN ξ' 6 = 40 → cr G x σ' → Q (-1) σ'
/-- a text is refused -/
theorem X_faulty {F0 : am_H} {D0 : xs_D} {ξ0 : xs_X} (hT0 : TD D0) (hR0 : RR A D0) {Q : Int32 → am_S → Prop} {α : Type} {res : ps_R α} (hF : PoF G A F0 D0 ξ0 x res Q) {D : xs_D} (hD : XD D0 D) {k : Int32} {q : Nat} {N' : ps_N} (hres : res = ps_f k q N') : XFt G A T n F0 D0 ξ0 x (fun q5 σ4 => f_o σ4 (some q5) [3] (fun _ => f_o σ4 (some (A 0)) [0] (fun b => W_X0_faulty G d b (some q5) σ4 (fun v1 σ2 => f_p σ2 (some (A 0)) [0] 18 (.int 0) (fun σ5 => Q v1 σ5))))) k q N' := fun F' ξ' σ' hB hN hp h6 h7 hc => by
  have r0 := hR0.1
  have r4 := hR0.2.2.1
  have H := hB.1
  refine x_o H r4 (by decide) (x_o H r0 (by decide) (W_X0_faulty_f (x_gi H r4 (by decide) h6 (x_p H r0 (by decide) fun σ1 H1 e1 => x_gi H1 r4 (by decide) (v := nI q) ?_ (x_p H1 r0 (by decide) fun σ2 H2 e2 => x_p H2 r0 (by decide) fun σ3 H3 e3 => ?_)))))
  · exact (congrFun (sI_sc (ξ := ξ') (i := 0) (j := 4) (k := 19) (v := k) (by decide)).1 7).trans h7
  have s3 : ∀ r, r ≠ 0 → sc ξ' (xs_sI (xs_sI (xs_sI ξ' 0 19 k) 0 20 (nI q)) 0 18 0) r := fun r hr => ((sI_sc hr).trans (sI_sc hr)).trans (sI_sc hr)
  refine hF k q N' hres F' _ σ3 hp.1 H3 (hN.up FE.refl ?_ (s3 6 (by decide)).2.2.2.1) ⟨sI_s, ?_, ?_⟩ (fun j hj => ?_) ?_ (fun r hr hn => ?_) ?_ ?_ (((hc.eq e1).eq e2).eq e3)
  · rw [xI_sI, if_neg (by decide), xI_sI, if_neg (by decide), xI_sI, if_neg (by decide)]
  · rw [xI_sI, if_neg (by decide), xI_sI, if_neg (by decide), xI_sI, if_pos rfl]
  · rw [xI_sI, if_neg (by decide), xI_sI, if_pos rfl]
  · simp only [List.mem_cons, List.not_mem_nil, or_false, not_or] at hj
    rw [xI_sI, if_neg hj.2.1, xI_sI, if_neg hj.2.2.2, xI_sI, if_neg hj.2.2.1]
    exact hp.2.2.1 j hj.1
  · exact hp.2.2.2
  · have hr0 : r ≠ 0 := fun e => hn (by rw [e]; decide)
    exact (hp.2.1 r hr hn).trans (s3 r hr0)
  · exact hB.2.2.2.1.2.2.2.1
  · exact hB.2.2.2.1.2.2.2.2.1
/-- X's pond -/
theorem X_pond (hG : GK G) (hd : 48 ≤ d) {F : am_H} {D : xs_D} {ξ : xs_X} {σ : am_S} (hB : XB G A T n F D ξ σ) (hN : XNm G F N ξ) (h22 : xR ξ 0 22 = some (A 1)) (h35 : xR ξ 0 35 = some (A 12)) (r12 : rl D 12 (A 12) 115) (hn12 : xN ξ 12 = 10) (he : ∀ p, 1000 ≤ p → T p = -1) (hcr : cr G (600 * (n + 1) + (x + 1200)) σ) {Q : Int32 → am_S → Prop} (hQ : PoQ G A F D ξ x (ps_pond T 1001 [] 0 N) Q) (hF : PoF G A F D ξ x (ps_pond T 1001 [] 0 N) Q) : W_X0_pond G (d + 20) (A 0) σ Q := by
  have hR := hB.2.2.1
  have hT := hB.2.1
  have r0 := hR.1
  have hN40 : N.1 ≤ 40 := hN.2.1
  have hE : XFn G A T n F D ξ x (ps_pond T 1001 [] 0 N) (fun q5 σ4 => f_o σ4 (some q5) [3] (fun _ => B_X0_pond_120 G (d + 20) (A 0) (some q5) σ4 Q)) := fun k q N' hres F' ξ' σ' a1 a2 a3 a4 a5 a6 => by
    have := X_faulty (d := d + 19) (n := n) (T := T) hT hR hF XD.refl hres F' ξ' σ' a1 a2 a3 a4 a5 a6
    unfold f_o f_c at this ⊢
    dsimp only at this ⊢
    cases hs : σ'.1 (A 4) with
    | none => rw [hs] at this; exact this
    | some e =>
      rw [hs] at this
      cases e with
      | inl y => exact this
      | inr y => exact ⟨this.1, B_X0_pond_120_f this.2⟩
  refine W_X0_pond_f (x_gr hB.1 r0 (by decide) h22 (x_o hB.1 hR.2.1 (by decide) (X_rpond (d := d) (x := x + 1100) hG hd hB hN (hcr.le (by omega)) (fun b l L p' N' hres F' D' ξ' σ' e' cap' ds' g1 g2 g3 g4 g5 g6 g7 => ?_) fun k q N' hres => (hE k q N' hres).pre pf.refl XD.refl hT hR (by omega))))
  obtain ⟨hPd, -⟩ := ps_pond_is he hN40 hres
  have hlen : (ds'.map (·.1)).length = L.length := by rw [List.length_map, g4.2.1]
  have hL12 := hPd.1
  -- the drafts are flagged
  have flag : ∀ (f k : Nat) (ξ1 : xs_X) (σ1 : am_S) {y : Int32}, k + f = L.length → y = nI k → XS F' D' ξ1 σ1 → PW G F' D' ξ1 b l e' cap' ds' L → (∀ q, ¬ pwR b l e' ds' q → sc ξ' ξ1 q) → (∀ (j : Nat) (dd : Nat × Nat), j < k → ds'[j]? = some dd → xI ξ1 (2000 + dd.1) 2 = 1) → σ1.2 = σ'.2 → B_X0_pond_10 G (d + 20) (A 0) (some b) y σ1 Q := fun f => by
    induction f with
    | succ f ih =>
      intro k ξ1 σ1 y hk hy H1 hW1 s1 f1 e1
      subst hy
      have hkl : k < L.length := by omega
      obtain ⟨dd, h1, h2, h3⟩ := hW1.get (List.getElem?_eq_getElem hkl)
      refine B_X0_pond_10_f (x_o H1 hW1.1.1 (by decide) (X_rowsSize (d := d + 18) H1 hW1.1 ?_))
      rw [hlen]
      refine ⟨fun c => absurd c (nI_ge hkl (by omega)), fun _ => x_o H1 hW1.1.1 (by decide) (X_rowsGet (d := d + 15) H1 hW1.1 rfl h2 (x_k H1 h3.2.1 (by decide) (x_p H1 h3.2.1 (by decide) fun σ2 H2 e2 => ?_)))⟩
      refine ih (k + 1) _ σ2 (by omega) (nI_1 k) H2 (hW1.flag h1) (fun q hq => (s1 q hq).trans (sI_sc fun e9 => hq (Or.inr ⟨k, dd, h1, Or.inl e9⟩))) (fun j d9 hj hd9 => ?_) (e2.trans e1)
      by_cases e9 : 2000 + d9.1 = 2000 + dd.1
      · rw [e9, sI_s]
      · rw [(sI_sc e9).1]
        refine f1 j d9 ?_ hd9
        rcases Nat.lt_or_ge j k with h | h
        · exact h
        · have : j = k := by omega
          subst this
          rw [h1] at hd9
          cases hd9
          exact absurd rfl e9
    | zero =>
      intro k ξ1 σ1 y hk hy H1 hW1 s1 f1 e1
      subst hy
      have hkl : k = L.length := by omega
      subst hkl
      refine B_X0_pond_10_f (x_o H1 hW1.1.1 (by decide) (X_rowsSize (d := d + 18) H1 hW1.1 ?_))
      rw [hlen]
      refine ⟨fun _ => ?_, fun c => absurd (nI_le (a := L.length) (b := L.length) (Nat.le_refl _) (by omega)) c⟩
      have c1 := g7.eq e1
      have hT' := g1.1.2.1
      refine x_narZ (n := 0) (j := 1) (m := x + 1050) H1 rfl (c1.le (by omega)) ⟨by omega, by omega, by omega⟩ fun F2 σ2 w f2 H2 hw c2 => ?_
      have hch : chF ξ1 ds' L := fun k dd kd h1 h2 => by
        rw [f1 k dd (get_lt h2) h1, ((hPd.2.2.2.1 k kd h2).1).2.1, if_pos rfl]
      have r0' := g2 _ _ _ r0
      refine x_o H2 r0' (by decide) (X_made (d := d + 12) (m := x + 200) (as0 := []) (L0 := []) (D0 := D') (a0 := A 0) hG H2 XD.refl hT' hL12 hPd.2.2.1 (fun k kd hk => ?_) (hPd.2.1.acL hL12) ⟨_, hw, fun k a h => by simp at h⟩ ⟨rfl, fun k kd a h => by simp at h⟩ (by decide) (hW1.up f2 XD.refl fun _ _ => sc.refl) hch (c2.le (by omega)) fun F3 ξ3 σ3 r as f3 H3 s3 hA3 hl3 hm3 c3 => ?_)
      · obtain ⟨n9, e9, e8⟩ := ((hPd.2.2.2.1 k kd hk).1).1
        rw [e8]
        exact nI_m1 (by omega)
      have hWX : WX F3 as L := ⟨hl3, fun k kd a h1 h2 => by
        rcases (hm3 k kd a h1 h2).2 with ⟨_, o, kd0, h4, _⟩ | ⟨_, _, hK⟩
        · cases h4
        · have hh := (hPd.2.2.2.1 k kd h1).1
          have : ((kN kd, kA kd, (0 : Int32), kC kd, kO kd), kd.2) = kd := by
            rw [← hh.2.2.1]
          rw [this] at hK
          exact hK⟩
      refine x_pr H3 r0' (by decide) fun σ4 H4 e4 => x_gr H4 r0' (by decide) sR_s (x_narZ (n := 0) (j := 1) (m := x + 190) H4 rfl ((c3.eq e4).le (by omega)) ⟨by omega, by omega, by omega⟩ fun F5 σ5 w5 f5 H5 hw5 c5 => ?_)
      refine X_fixedOf2 (d := d + 17) (m := x + 40) (fs0 := []) (V0 := []) H5 hT' (hWX.mono f5) (hA3.mono f5) hL12 ⟨_, hw5, fun k a h => by simp at h⟩ ⟨rfl, fun q v x h => by simp at h⟩ (by decide) (c5.le (by omega)) fun F6 D6 ξ6 σ6 fs fw f6 xd6 td6 H6 s6 hA6 hX6 hn6 c6 => ?_
      have r06 := xd6 _ _ _ r0'
      have r126 := xd6 _ _ _ (g2 _ _ _ r12)
      refine x_pr H6 r06 (by decide) fun σ7 H7 e7 => x_o H7 r06 (by decide) (W_X0_fine_f (x_p H7 r06 (by decide) fun σ8 H8 e8 => x_p H8 r06 (by decide) fun σ9 H9 e9 => x_p H9 r06 (by decide) fun σ10 H10 e10 => x_p H10 r06 (by decide) fun σ11 H11 e11 => x_pr H11 r06 (by decide) fun σ12 H12 e12 => x_pr H12 r06 (by decide) fun σ13 H13 e13 => x_p H13 r06 (by decide) fun σ14 H14 e14 => x_p H14 r06 (by decide) fun σ15 H15 e15 => ?_))
      -- what stays of role 0
      have n0 : ¬ pwR b l e' ds' 0 := fun h => by have := (g4.has h).2; omega
      have hnr : ∀ r, D.2.2 r → ¬ pwR b l e' ds' r := fun r hr h => g6 r h hr
      have s06 : sc (xs_sR ξ3 0 3 (some r)) ξ6 0 := s6 0 r0'.1
      have sA : ∀ q, D'.2.2 q → ¬ pwR b l e' ds' q → q ≠ 0 → sc ξ' ξ6 q := fun q hq hp hne => (((s1 q hp).trans (s3 q hq)).trans (sR_sc hne)).trans (s6 q hq)
      have sB : ∀ q, D.2.2 q → q ≠ 0 → sc ξ' ξ6 q := fun q hq hne => sA q (g2.has hq) (hnr q hq) hne
      revert H15
      generalize hξ : xs_sI (xs_sI (xs_sR (xs_sR (xs_sI (xs_sI (xs_sI (xs_sI (xs_sR ξ6 0 4 (some fw)) 0 19 0) 0 20 (-1)) 0 6 0) 0 25 0) 0 27 none) 0 34 none) 0 26 0) 0 37 (-1) = ξ15
      intro H15
      have sC : ∀ q, q ≠ 0 → sc ξ6 ξ15 q := fun q hq => by
        rw [← hξ]
        exact ((((((((sR_sc hq).trans (sI_sc hq)).trans (sI_sc hq)).trans (sI_sc hq)).trans (sI_sc hq)).trans (sR_sc hq)).trans (sR_sc hq)).trans (sI_sc hq)).trans (sI_sc hq)
      have hI : ∀ k, k ∉ [6, 19, 20, 25, 26, 37] → xI ξ15 0 k = xI ξ6 0 k := fun k hk => by
        simp only [List.mem_cons, List.not_mem_nil, or_false, not_or] at hk
        rw [← hξ]
        simp only [xI_sI, xI_sR, hk, if_false]
      have hR9 : ∀ k, k ∉ [4, 27, 34] → xR ξ15 0 k = xR ξ6 0 k := fun k hk => by
        simp only [List.mem_cons, List.not_mem_nil, or_false, not_or] at hk
        rw [← hξ]
        simp only [xR_sI, xR_sR, hk, if_false]
      have i6 : xI ξ15 0 6 = 0 := by rw [← hξ]; simp [xI_sI, xI_sR]
      have i19 : xI ξ15 0 19 = 0 := by rw [← hξ]; simp [xI_sI, xI_sR]
      have i20 : xI ξ15 0 20 = -1 := by rw [← hξ]; simp [xI_sI, xI_sR]
      have i25 : xI ξ15 0 25 = 0 := by rw [← hξ]; simp [xI_sI, xI_sR]
      have i26 : xI ξ15 0 26 = 0 := by rw [← hξ]; simp [xI_sI, xI_sR]
      have i37 : xI ξ15 0 37 = -1 := by rw [← hξ]; simp [xI_sI, xI_sR]
      have q4 : xR ξ15 0 4 = some fw := by rw [← hξ]; simp [xR_sI, xR_sR]
      have q27 : xR ξ15 0 27 = none := by rw [← hξ]; simp [xR_sI, xR_sR]
      have q34 : xR ξ15 0 34 = none := by rw [← hξ]; simp [xR_sI, xR_sR]
      have hI6 : ∀ k, xI ξ6 0 k = xI ξ' 0 k := fun k => by
        rw [s06.1]
        show xI ξ3 0 k = _
        rw [(s3 0 r0'.1).1, (s1 0 n0).1]
      have hR6 : ∀ k, k ≠ 3 → xR ξ6 0 k = xR ξ' 0 k := fun k hk => by
        rw [s06.2.1, sR_o hk, (s3 0 r0'.1).2.1, (s1 0 n0).2.1]
      have hR63 : xR ξ6 0 3 = some r := by rw [s06.2.1, sR_s]
      have hR' : ∀ k, k ∉ [3, 4, 27, 34] → xR ξ15 0 k = xR ξ 0 k := fun k hk => by
        simp only [List.mem_cons, List.not_mem_nil, or_false, not_or] at hk
        rw [hR9 k (by simp [hk]), hR6 k hk.1]
        exact congrFun g3.2.2.2 k
      have r35 : xR ξ15 0 35 = some (A 12) := (hR' 35 (by decide)).trans h35
      have s12 : sc ξ' ξ15 12 := (sB 12 r12.1 (by decide)).trans (sC 12 (by decide))
      have hn12' : xN ξ15 12 = 10 := by rw [s12.2.2.2.2, (g3.2.1 12 r12.1 (by decide)).2.2.2.2]; exact hn12
      refine x_gr H15 r06 (by decide) r35 (X_fillN H15 r126 hn12' (by decide) fun ξ16 σ16 H16 s16 n16 q16 e16 => ?_)
      have h16 := s16 0 (by decide)
      have h3 : xR ξ16 0 3 = some r := by rw [h16.2.1, hR9 3 (by decide), hR63]
      have hA9 : kAr F6 r as := (hA3.mono f5).mono f6
      have hA9' := hA9
      obtain ⟨g9, k1, k2⟩ := hA9
      refine x_gr H16 r06 (by decide) h3 (z_al H16 k1 (x_p H16 r06 (by decide) fun σ17 H17 e17 => ?_))
      have hFE : FE F' F6 := ((f2.trans f3).trans f5).trans f6
      rw [hl3]
      have sE : ∀ q, D.2.2 q → q ≠ 0 → q ≠ 12 → sc ξ' (xs_sI ξ16 0 18 0) q := fun q hq h0 h12 => (((sB q hq h0).trans (sC q h0)).trans (s16 q h12)).trans (sI_sc h0)
      have hI' : ∀ k, k ∉ [6, 18, 19, 20, 25, 26, 37] → xI (xs_sI ξ16 0 18 0) 0 k = xI ξ' 0 k := fun k hk => by
        simp only [List.mem_cons, List.not_mem_nil, or_false, not_or] at hk
        rw [xI_sI, if_neg hk.2.1, h16.1, hI k (by simp [hk]), hI6]
      refine hQ L p' N' hres F6 D6 (xs_sI ξ16 0 18 0) σ17 as fs r fw (g3.1.trans hFE) (g2.trans xd6) td6 H17 (g1.2.1.up hFE (hI' 1 (by decide)) (sE 6 hR.2.2.2.1.1 (by decide) (by decide)).2.2.2.1) ⟨(hWX.mono f5).mono f6, hA9', hA6, hX6.up XD.refl fun v hv => ?_, fun v hv h9 => hn6 v hv (g2.has h9)⟩ ⟨h3, by show xR ξ16 0 4 = _; rw [h16.2.1, q4], by show xR ξ16 0 27 = _; rw [h16.2.1, q27], by show xR ξ16 0 34 = _; rw [h16.2.1, q34]⟩ ⟨?_, ?_, ?_, ?_, sI_s, ?_, ?_⟩ (fun k hk => ?_) (fun k hk => ?_) (fun r9 hr hn => ?_) ?_ ?_ ⟨n16, q16⟩ ?_
      · have h2 : 2000 + v ≠ 0 := by omega
        exact ((sC _ h2).trans (s16 _ (by omega))).trans (sI_sc h2)
      · rw [sI_o (by decide), h16.1, i6]
      · rw [sI_o (by decide), h16.1, i25]
      · rw [sI_o (by decide), h16.1, i26]
      · rw [sI_o (by decide), h16.1, i37]
      · rw [sI_o (by decide), h16.1, i19]
      · rw [sI_o (by decide), h16.1, i20]
      · simp only [List.mem_cons, List.not_mem_nil, or_false, not_or] at hk
        rw [hI' k (by simp [hk])]
        exact g3.2.2.1 k hk.1
      · show xR ξ16 0 k = _
        rw [h16.2.1]
        exact hR' k hk
      · simp only [List.mem_cons, List.not_mem_nil, or_false, not_or] at hn
        exact (g3.2.1 r9 hr (by simp [hn])).trans (sE r9 hr hn.1 hn.2.2.2.2)
      · rw [(sE 1 hR.2.1.1 (by decide) (by decide)).2.1]
        exact g1.1.2.2.2.1.2.2.2.1
      · rw [(sE 6 hR.2.2.2.1.1 (by decide) (by decide)).2.2.2.2]
        exact g1.1.2.2.2.1.2.2.2.2.1
      · exact ((((((((((c6.eq e7).eq e8).eq e9).eq e10).eq e11).eq e12).eq e13).eq e14).eq e15).eq e16 |>.eq e17).le (by omega)
  exact flag L.length 0 ξ' σ' (by omega) rfl g1.1.1 g4 (fun _ _ => sc.refl) (fun j dd hj => absurd hj (by omega)) rfl
end
