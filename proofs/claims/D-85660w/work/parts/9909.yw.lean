set_option maxRecDepth 100000
/-- drafts that are changed -/
def chF (ξ : xs_X) (ds : List (Nat × Nat)) (L : List Kd) : Prop := ∀ (k : Nat) (dd : Nat × Nat) (kd : Kd), ds[k]? = some dd → L[k]? = some kd → xI ξ (2000 + dd.1) 2 = if kC kd = true then 1 else 0
section
variable {G : am_G} {d : Nat}
/-- what is asked of kinds made -/
def MaQ (G : am_G) (F0 : am_H) (D0 : xs_D) (ξ0 : xs_X) (as0 : List Nat) (L0 : List Kd) (gg : Int32) (L : List Kd) (m : Nat) (Q : Option Nat → am_S → Prop) : Prop := ∀ F' ξ' σ' r as, FE F0 F' → XS F' D0 ξ' σ' → (∀ q, D0.2.2 q → sc ξ0 ξ' q) → kAr F' r as → as.length = L.length → (∀ (k : Nat) (kd : Kd) (v : Nat), L[k]? = some kd → as[k]? = some v → (∀ u, kA kd = some u → u < L.length) ∧ MDk F0 F' as0 L0 gg kd (abO (fun u => as[u]?) kd) v) → cr G m σ' → Q (some r) σ'
theorem X_made_l (hG : GK G) {F0 : am_H} {D0 D : xs_D} {ξ0 : xs_X} (hD0 : XD D0 D) (hT : TD D) {a0 b l cap w r it m : Nat} {e : Option Nat} {ds : List (Nat × Nat)} {L L0 : List Kd} {as0 : List Nat} {gg : Int32} (hL : L.length ≤ 12) (hu : ∀ (i j : Nat) (ki kj : Kd), L[i]? = some ki → L[j]? = some kj → kN ki = kN kj → i = j) (hneg : ∀ (k : Nat) (kd : Kd), L[k]? = some kd → ¬ kN kd = -1) (hac : acL L) (rit : rl D it r 109) (hit : ¬ D0.2.2 it) (hnp : ¬ pwR b l e ds it) (hA0 : kAr F0 w as0) (hW0 : WX F0 as0 L0) (hl0 : L0.length < 1000) {Q : Option Nat → am_S → Prop} (hQ : MaQ G F0 D0 ξ0 as0 L0 gg L m Q) : ∀ (c : Nat) (F : am_H) (ξ : xs_X) (σ : am_S) {y : Int32}, y = nI (cntN (xQ ξ it) L.length) → cntN (xQ ξ it) L.length ≤ c → FE F0 F → XS F D ξ σ → (∀ q, D0.2.2 q → sc ξ0 ξ q) → PW G F D ξ b l e cap ds L → chF ξ ds L → xN ξ it = L.length → MDi F0 F as0 L0 gg L (xQ ξ it) → cr G (m + 64 * cntN (xQ ξ it) L.length) σ → B_X0_made_14 G (d + 7) a0 (some b) (some w) gg (some r) y σ Q
  | 0, F, ξ, σ, y, hy, hc, hF, H, hs, hW, hch, hn, hM, hcr => by
    have h0 : cntN (xQ ξ it) L.length = 0 := by omega
    rw [h0] at hy hcr
    subst hy
    refine B_X0_made_14_f ⟨fun _ => ?_, fun c => absurd (by decide) c⟩
    have hall := cntN_0 _ h0
    obtain ⟨H1, hF1⟩ := H.frz rit (fun _ _ => tf_no (by decide))
    let as : List Nat := (List.range L.length).map fun k => (xQ ξ it k).getD 0
    have hasl : as.length = L.length := by simp [as]
    have hask : ∀ k, k < L.length → as[k]? = xQ ξ it k := fun k hk => by
      obtain ⟨v, hv⟩ := hall k hk
      simp [as, hk, hv]
    refine hQ _ ξ σ r as (hF.trans (fzF_FE hF1)) (H1.cong (hD0.drop hit)) hs ⟨xQ ξ it, fzF_s.trans ?_, fun k a ha => ?_⟩ hasl (fun k kd v hk hv => ?_) (hcr.le (by omega))
    · unfold xs_E
      rw [if_neg (by decide), if_neg (by decide), if_neg (by decide), if_neg (by decide), hn, hasl]
    · have hk : k < L.length := by rw [← hasl]; exact get_lt ha
      rw [hask k hk] at ha
      exact ha
    · have hkl := get_lt hk
      rw [hask k hkl] at hv
      obtain ⟨a1, a2⟩ := hM k kd v hk hv
      have hub : ∀ u, kA kd = some u → u < L.length := fun u hu9 => by
        have := hac k hkl
        obtain ⟨kd', h1, h2⟩ := this
        rw [hk] at h1
        cases h1
        rw [hu9] at h2
        obtain ⟨kd2, h3, -⟩ := h2
        exact get_lt h3
      refine ⟨hub, ?_⟩
      have : abO (fun u => as[u]?) kd = abO (xQ ξ it) kd := by
        unfold abO
        cases hA : kA kd with
        | none => rfl
        | some u => exact hask u (hub u hA)
      rw [this]
      exact a2.mono (fzF_FE hF1)
  | c + 1, F, ξ, σ, y, hy, hc, hF, H, hs, hW, hch, hn, hM, hcr => by
    by_cases h0 : cntN (xQ ξ it) L.length ≤ c
    · exact X_made_l hG hD0 hT hL hu hneg hac rit hit hnp hA0 hW0 hl0 hQ c F ξ σ hy h0 hF H hs hW hch hn hM hcr
    have hc1 : cntN (xQ ξ it) L.length = c + 1 := by omega
    have hcl : cntN (xQ ξ it) L.length ≤ L.length := cntN_le _
    subst hy
    refine B_X0_made_14_f ⟨fun h9 => absurd h9 ?_, fun _ => ?_⟩
    · rw [hc1]
      exact nI_ge (a := 0) (b := c + 1) (by omega) (by omega)
    -- one pass
    have pass : ∀ (f k : Nat) (F : am_H) (ξ : xs_X) (σ : am_S) (n9 : Nat) {y5 y6 : Int32}, k + f = L.length → y6 = nI k → n9 = cntN (xQ ξ it) L.length → y5 = nI n9 → n9 ≤ c + 1 → (n9 ≤ c ∨ ∃ k' kd', k ≤ k' ∧ L[k']? = some kd' ∧ xQ ξ it k' = none ∧ ∀ u, kA kd' = some u → ∃ v, xQ ξ it u = some v) → FE F0 F → XS F D ξ σ → (∀ q, D0.2.2 q → sc ξ0 ξ q) → PW G F D ξ b l e cap ds L → chF ξ ds L → xN ξ it = L.length → MDi F0 F as0 L0 gg L (xQ ξ it) → cr G (m + 64 * n9) σ → B_X0_made_22 G (d + 7) a0 (some b) (some w) gg (some r) y5 y6 σ Q := fun f => by
      induction f with
      | zero =>
        intro k F ξ σ n9 y5 y6 hk hy6 hn9 hy5 hle hP hF H hs hW hch hn hM hcr
        subst hy6; subst hy5
        refine B_X0_made_22_f (x_al H rit hn ⟨fun _ => ?_, fun c9 => absurd (nI_le (a := L.length) (b := k) (by omega) (by omega)) c9⟩)
        rcases hP with hP | ⟨k', kd', h1, h2, _⟩
        · exact X_made_l hG hD0 hT hL hu hneg hac rit hit hnp hA0 hW0 hl0 hQ c F ξ σ (by rw [hn9]) (by omega) hF H hs hW hch hn hM (by rw [← hn9]; exact hcr)
        · have := get_lt h2
          omega
      | succ f ih =>
        intro k F ξ σ n9 y5 y6 hk hy6 hn9 hy5 hle hP hF H hs hW hch hn hM hcr
        subst hy6; subst hy5
        have hkl : k < L.length := by omega
        obtain ⟨kd, hkd⟩ : ∃ kd, L[k]? = some kd := ⟨_, List.getElem?_eq_getElem hkl⟩
        obtain ⟨dd, hd1, hd2, hDR⟩ := hW.get hkd
        have hneg' : ∀ u ku, kA kd = some u → L[u]? = some ku → abN L (kA kd) = kN ku := fun u ku h1 h2 => by
          rw [h1]; unfold abN; dsimp only; rw [h2]
        have habu : ∀ u, kA kd = some u → ∃ ku, L[u]? = some ku := fun u hu9 => by
          have := hac k hkl
          obtain ⟨kd', h1, h2⟩ := this
          rw [hkd] at h1
          cases h1
          rw [hu9] at h2
          obtain ⟨kd2, h3, -⟩ := h2
          exact ⟨kd2, h3⟩
        have hab1 : abN L (kA kd) = -1 ↔ kA kd = none := by
          constructor
          · intro h
            cases hA : kA kd with
            | none => rfl
            | some u =>
              obtain ⟨ku, hku⟩ := habu u hA
              rw [hneg' u ku hA hku] at h
              exact absurd h (hneg u ku hku)
          · intro h
            rw [h]
            rfl
        -- behind the one above
        have next : ∀ {y6 : Int32}, y6 = nI k + 1 → (n9 ≤ c ∨ ∃ k' kd', k + 1 ≤ k' ∧ L[k']? = some kd' ∧ xQ ξ it k' = none ∧ ∀ u, kA kd' = some u → ∃ v, xQ ξ it u = some v) → B_X0_made_22 G (d + 7) a0 (some b) (some w) gg (some r) (nI n9) y6 σ Q := fun hy hP' => ih (k + 1) F ξ σ n9 (by omega) (hy.trans (nI_1 k)) hn9 rfl hle hP' hF H hs hW hch hn hM hcr
        have m66 : B_X0_made_66 G (d + 7) a0 (some b) (some w) gg (some r) (nI n9) (nI k) (some dd.1) (abO (xQ ξ it) kd) σ Q := by
          refine B_X0_made_66_f (x_ar (n := L.length) (q := k) H rit (by decide) hn rfl hkl (by omega) rfl ⟨fun hne => next rfl ?_, fun hno => ?_⟩)
          · rcases hP with hP | ⟨k', kd', h1, h2, h3, h4⟩
            · exact Or.inl hP
            · refine Or.inr ⟨k', kd', ?_, h2, h3, h4⟩
              by_cases e : k' = k
              · rw [e] at h3; exact absurd h3 hne
              · omega
          -- it is made now
          have m93 : (∀ u, kA kd = some u → ∃ v, xQ ξ it u = some v) → B_X0_made_93 G (d + 7) a0 (some b) (some w) gg (some r) (nI n9) (nI k) (some dd.1) (abO (xQ ξ it) kd) σ Q := fun hab => by
            have hn91 : cntN (oup (xQ ξ it) k 0) L.length + 1 = cntN (xQ ξ it) L.length := cntN_oup hno _ hkl
            have hleft : nI n9 + -1 = nI (n9 - 1) := by
              rw [show nI n9 + -1 = nI n9 - nI 1 from by rw [Int32.sub_eq_add_neg]; rfl, pk_sub (by omega)]
            have put : ∀ (F1 : am_H) (ξ1 : xs_X) (σ1 : am_S) (v : Nat) {y6 : Int32}, y6 = nI k + 1 → FE F F1 → XS F1 D ξ1 σ1 → (∀ q, D.2.2 q → sc ξ ξ1 q) → (∃ f, F1 v = some (.inr (21, f))) → MDk F0 F1 as0 L0 gg kd (abO (xQ ξ it) kd) v → cr G (m + 64 * (n9 - 1)) σ1 → f_sr σ1 (some r) 9 [21] (nI k) (some v) (fun σ7 => B_X0_made_22 G (d + 7) a0 (some b) (some w) gg (some r) (nI n9 + -1) y6 σ7 Q) := fun F1 ξ1 σ1 v y6 hy6 hF1 H1 s1 hv hm1 hc1 => by
              obtain ⟨fv, hfv⟩ := hv
              refine x_sr (n := L.length) (q := k) H1 rit (by decide) ((s1 it rit.1).2.2.2.2.trans hn) rfl hkl (by omega) (fun _ _ => z_k H1 hfv (by decide) trivial) fun σ2 H2 e2 => ?_
              have hq2 : xQ (xs_sQ ξ1 it k (some v)) it = oup (xQ ξ it) k v := by
                show xs_u ξ1.2.2.2.1 it k (some v) it = _
                rw [xs_us]
                funext q
                unfold oup
                rw [show ξ1.2.2.2.1 it = xQ ξ it from (s1 it rit.1).2.2.2.1]
              have hcn : cntN (oup (xQ ξ it) k v) L.length + 1 = cntN (xQ ξ it) L.length := cntN_oup hno _ hkl
              have s2 : ∀ q, D.2.2 q → q ≠ it → sc ξ (xs_sQ ξ1 it k (some v)) q := fun q hq hne => (s1 q hq).trans (sQ_sc hne)
              rw [hleft]
              refine ih (k + 1) F1 _ σ2 (n9 - 1) (by omega) (hy6.trans (nI_1 k)) ?_ rfl (by omega) (Or.inl (by omega)) (hF.trans hF1) H2 (fun q hq => (hs q hq).trans (s2 q (hD0.has hq) fun e => hit (e ▸ hq))) (hW.up hF1 XD.refl fun q hq => s2 q (hW.has hq).1 fun e => hnp (e ▸ hq)) (fun k9 dd9 kd9 h1 h2 => ?_) ((s1 it rit.1).2.2.2.2.trans hn) ?_ (hc1.eq e2)
              · rw [hq2]; omega
              · have hq9 : pwR b l e ds (2000 + dd9.1) := Or.inr ⟨k9, dd9, h1, Or.inl rfl⟩
                rw [(s2 _ (hW.has hq9).1 fun e => hnp (e ▸ hq9)).1]
                exact hch k9 dd9 kd9 h1 h2
              · rw [hq2]
                exact hM.upd hF1 hkd hno hab hm1
            -- a new one
            have new : ∀ y9 : Int32, (∀ v', ¬ mdS as0 L0 kd (abO (xQ ξ it) kd) v') → B_X0_made_135 G (d + 7) a0 (some b) (some w) gg (some r) (nI n9) (nI k) (some dd.1) (abO (xQ ξ it) kd) y9 0 σ Q := fun y9 hns => by
              refine B_X0_made_135_f ⟨fun _ => ?_, fun c9 => absurd rfl c9⟩
              refine x_new (c := 21) (j := 3) (m := m + 64 * (n9 - 1) + 60) H hT ok_21 (by decide) (hcr.le (by omega)) ⟨by omega, by omega⟩ rfl fun D1 ξ1 σ1 i xd td ni ri _ H1 s1 z1 z2 c1 hF1 => ?_
              have hDR1 := hDR.up FE.refl xd fun q hq => s1 q (hDR.has hq).1
              refine X_kindInit (d := d + 4) (m := m + 64 * (n9 - 1)) H1 td xd ri ni hDR1 (fun h9 => ni (hDR.has h9).1) c1 fun F' ξ' σ' f' H' s' hK c' => ?_
              have hFn : F0 σ.2.1 = none := by
                cases h9 : F0 σ.2.1 with
                | none => rfl
                | some e9 => rw [hF _ _ h9] at hF1; cases hF1
              refine put F' ξ' σ' _ rfl f' H' (fun q hq => (s1 q hq).trans (s' q hq)) ?_ (Or.inr ⟨hns, hFn, hK⟩) c'
              obtain ⟨f, c3, c4, c5, c6, c7, c8, g3, g4, g5, g6, g7, g8, k1, k2⟩ := hK
              exact ⟨f, k1⟩
            refine B_X0_made_93_f (x_gi H hDR.2.1 (by decide) hDR.2.2.2.1 (X_findK H (hA0.mono hF) (hW0.mono hF) hl0 (x_gi H hDR.2.1 (by decide) (hch k dd kd hd1 hkd) ⟨fun hc9 => ?_, fun hc9 => ⟨fun ho => ?_, fun ho => ?_⟩⟩)))
            · refine new _ fun v' ⟨h1, _⟩ => ?_
              rw [h1] at hc9
              exact hc9 rfl
            · refine new _ fun v' ⟨_, o, kd0, h2, h3, _⟩ => ?_
              rw [h2] at ho
              exact nI_m1 (by have := get_lt h3; omega) ho
            · have hcf : kC kd = false := by
                cases h9 : kC kd with
                | false => rfl
                | true => rw [h9] at hc9; exact absurd hc9 (by decide)
              cases hix : ixK L0 (kN kd) with
              | none => rw [hix] at ho; exact absurd rfl ho
              | some o =>
                have hol : o < L0.length := ixf_lt hix
                obtain ⟨kd0, hkd0⟩ : ∃ kd0, L0[o]? = some kd0 := ⟨_, List.getElem?_eq_getElem hol⟩
                have hoa : o < as0.length := by rw [hW0.1]; exact hol
                obtain ⟨va, hva⟩ : ∃ v, as0[o]? = some v := ⟨_, List.getElem?_eq_getElem hoa⟩
                obtain ⟨g, g1, g2⟩ := hA0.mono hF
                obtain ⟨f, c3, c4, c5, c6, c7, c8, g3, g4, g5, g6, g7, g8, k1, k2, k3, k4, k5⟩ := (hW0.mono hF).2 o kd0 va hkd0 hva
                refine z_ar H g1 rfl hoa (by have := hW0.1; omega) (g2 o va hva) (z_gr H k1 (by decide) k4 ⟨fun hne => ?_, fun he => ?_⟩)
                · refine new _ fun v' ⟨_, o', kd0', h2, h3, h4, h5⟩ => ?_
                  rw [hix] at h2
                  cases h2
                  rw [hkd0] at h3
                  cases h3
                  exact hne h5
                · refine B_X0_made_135_f ⟨fun c9 => absurd c9 (by decide), fun _ => z_ar H g1 rfl hoa (by have := hW0.1; omega) (g2 o va hva) ?_⟩
                  exact put F ξ σ va rfl FE.refl H (fun _ _ => sc.refl) ⟨f, k1⟩ (Or.inl ⟨hcf, o, kd0, hix, hkd0, hva, he⟩) (hcr.le (by omega))
          refine x_gi H hDR.2.1 (by decide) hDR.2.2.2.2.1 ⟨fun hab => m93 fun u hu9 => ?_, fun hab => ⟨fun hne => m93 fun u hu9 => ?_, fun he => next rfl ?_⟩⟩
          · rw [hab1.mp hab] at hu9; cases hu9
          · cases h9 : xQ ξ it u with
            | some v => exact ⟨v, rfl⟩
            | none =>
              exfalso
              apply hne
              unfold abO
              rw [hu9]
              exact h9
          · rcases hP with hP | ⟨k', kd', h1, h2, h3, h4⟩
            · exact Or.inl hP
            · refine Or.inr ⟨k', kd', ?_, h2, h3, h4⟩
              by_cases e9 : k' = k
              · exfalso
                subst e9
                rw [hkd] at h2
                cases h2
                cases hA : kA kd with
                | none => exact hab (hab1.mpr hA)
                | some u =>
                  obtain ⟨v, hv⟩ := h4 u hA
                  have : abO (xQ ξ it) kd = some v := by unfold abO; rw [hA]; exact hv
                  rw [this] at he
                  cases he
              · omega
        refine B_X0_made_22_f (x_al H rit hn ⟨fun c9 => absurd c9 (nI_ge hkl (by omega)), fun _ => x_o H hW.1.1 (by decide) (X_rowsGet (d := d + 2) H hW.1 rfl hd2 (x_k H hDR.2.1 (by decide) (x_gi H hDR.2.1 (by decide) hDR.2.2.2.2.1 ⟨fun hab => ?_, fun hab => ?_⟩)))⟩)
        · cases hA : kA kd with
          | none => exact absurd (hab1.mpr hA) hab
          | some u =>
            obtain ⟨ku, hku⟩ := habu u hA
            have hul := get_lt hku
            rw [hA] at hDR
            refine x_gi H hDR.2.1 (by decide) hDR.2.2.2.2.1 (X_place (d := d + 1) H hW hL hu hku (by unfold abN; dsimp only; rw [hku]) (x_ar (n := L.length) (q := u) H rit (by decide) hn rfl hul (by omega) rfl ?_))
            have : abO (xQ ξ it) kd = xQ ξ it u := by unfold abO; rw [hA]; rfl
            rw [this] at m66
            exact m66
        · have : abO (xQ ξ it) kd = none := by unfold abO; rw [hab1.mp hab]; rfl
          rw [this] at m66
          exact m66
    refine pass L.length 0 F ξ σ (cntN (xQ ξ it) L.length) (by omega) rfl rfl rfl (by omega) (Or.inr ?_) hF H hs hW hch hn hM hcr
    obtain ⟨k, hk1, hk2⟩ := cntN_pos (o := xQ ξ it) L.length (by omega)
    obtain ⟨k', kd', h1, h2, h3⟩ := mk_next 12 k (hac k hk1) hk2
    exact ⟨k', kd', Nat.zero_le _, h1, h2, h3⟩
/-- kinds are made of drafts -/
theorem X_made (hG : GK G) {F : am_H} {D0 D : xs_D} {ξ : xs_X} {σ : am_S} (H : XS F D ξ σ) (hD0 : XD D0 D) (hT : TD D) {a0 b l cap w m : Nat} {e : Option Nat} {ds : List (Nat × Nat)} {L L0 : List Kd} {as0 : List Nat} {gg : Int32} (hL : L.length ≤ 12) (hu : ∀ (i j : Nat) (ki kj : Kd), L[i]? = some ki → L[j]? = some kj → kN ki = kN kj → i = j) (hneg : ∀ (k : Nat) (kd : Kd), L[k]? = some kd → ¬ kN kd = -1) (hac : acL L) (hA0 : kAr F w as0) (hW0 : WX F as0 L0) (hl0 : L0.length < 1000) (hW : PW G F D ξ b l e cap ds L) (hch : chF ξ ds L) (hcr : cr G (m + 800) σ) {Q : Option Nat → am_S → Prop} (hQ : MaQ G F D0 ξ as0 L0 gg L m Q) : W_X0_made G (d + 7) a0 (some b) (some w) gg σ Q := by
  refine W_X0_made_f (x_o H hW.1.1 (by decide) (X_rowsSize (d := d + 5) H hW.1 ?_))
  have hlen : (ds.map (·.1)).length = L.length := by rw [List.length_map, hW.2.1]
  rw [hlen]
  refine x_nar (n := L.length) (j := 4) (m := m + 64 * 12) H hT rfl (by decide) (hcr.le (by omega)) ⟨by omega, by omega, by omega⟩ fun D1 ξ1 σ1 it xd td ni ri _ H1 s1 n1 q1 c1 hF1 => x_al H1 ri n1 ?_
  have hcn : cntN (xQ ξ1 it) L.length = L.length := cntN_all (fun q => by rw [q1]) _
  refine X_made_l (d := d) (D0 := D0) (D := D1) hG (hD0.trans xd) td hL hu hneg hac ri (fun h9 => ni (hD0.has h9)) (fun h9 => ni (hW.has h9).1) hA0 hW0 hl0 hQ L.length F ξ1 σ1 (by rw [hcn]) (by omega) FE.refl H1 (fun q hq => s1 q (hD0.has hq)) (hW.up FE.refl xd fun q hq => s1 q (hW.has hq).1) (fun k dd kd h1 h2 => ?_) n1 (fun k kd v h1 h2 => ?_) (c1.le (by rw [hcn]; omega))
  · have hq9 : pwR b l e ds (2000 + dd.1) := Or.inr ⟨k, dd, h1, Or.inl rfl⟩
    rw [(s1 _ (hW.has hq9).1).1]
    exact hch k dd kd h1 h2
  · rw [q1] at h2
    cases h2
end
