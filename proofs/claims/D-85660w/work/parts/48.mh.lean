set_option maxRecDepth 100000
section
variable {G : am_G} {ρ : mm_F} {d : Nat}
theorem lxe_eq {T : Nat → Int32} {p q : Nat} (h : lxa T p = lxa T q) : lxe T p = lxe T q := by
  unfold lxe
  rw [h]
theorem lxt_eq {T : Nat → Int32} {p q : Nat} (h : lxa T p = lxa T q) : lxt T p = lxt T q := by
  unfold lxt
  rw [h, lxe_eq h]
theorem tkn_eq {T : Nat → Int32} {p q : Nat} {μ : mm_S} (h : lxa T p = lxa T q) (ht : tkn T q μ) : tkn T p μ := by
  unfold tkn lxv lxn at *
  rw [lxe_eq h, lxt_eq h, h]
  exact ht
/-- nothing of these signs -/
theorem cSg0 {c : Int32} (h : ¬ c = 123 ∧ ¬ c = 125 ∧ ¬ c = 40 ∧ ¬ c = 41 ∧ ¬ c = 59 ∧ ¬ c = 61 ∧ ¬ c = 43 ∧ ¬ c = 45 ∧ ¬ c = 42 ∧ ¬ c = 47 ∧ ¬ c = 60) : cSg c = false := by
  unfold cSg
  simp [h]
theorem S_look0 {T : Nat → Int32} : ∀ (f p : Nat) {μ : mm_S} {Q : mm_S → Prop}, tx μ = T → tok μ → wok0 μ → mI μ 2 = nI p → p ≤ 1000 → 1001 ≤ p + f → (∀ μ', fr [2, 3, 4, 5, 10] μ μ' → tkn T p μ' → Q μ') → W_X6_look0 G ρ (d + 3) μ Q
  | 0, p, μ, Q, hT, ht, hw, h2, hp, hf, h => by omega
  | f + 1, p, μ, Q, hT, ht, hw, h2, hp, hf, h => W_X6_look0_f (S_see h2 ht (by omega) (by
      have he : ∀ p, 1000 ≤ p → T p = -1 := fun q hq => by rw [← hT]; exact ht.end_ hq
      rw [hT]
      have step : ∀ μ1, μ1 = mm_sI μ 2 (mI μ 2 + 1) → cSp (T p) = true → W_X6_look0 G ρ (d + 3) μ1 Q := fun μ1 e hs => by
        have hp2 : p < 1000 := Nat.lt_of_not_le fun h9 => by rw [he p h9] at hs; exact absurd hs (by decide)
        have hfr : fr [2, 3, 4, 5, 10] μ μ1 := by rw [e]; exact fr.refl.sI (by decide)
        exact S_look0 f (p + 1) ((hfr.txt (by decide) (by decide)).trans hT) (hfr.tok (by decide) (by decide) ht) (hfr.wok0 (by decide) hw) (by rw [e, mI_s, h2]; exact nI_1 _) (by omega) (by omega) fun μ' g1 g2 => h μ' (hfr.trans g1) (tkn_eq (lxa_sp he hs) g2)
      refine ⟨fun c μ1 e => step μ1 e (by rw [c]; rfl), fun c1 => S_see h2 ht (by omega) ?_⟩
      rw [hT]
      refine ⟨fun c2 μ1 e => ?_, fun c2 μ1 e => step μ1 e (by rw [c2]; rfl)⟩
      have hns : ¬ cSp (T p) = true := by unfold cSp; simp [c1, c2]
      have ea : lxa T p = p := lxa_no hns
      have hfr1 : fr [2, 3, 4, 5, 10] μ μ1 := by rw [e]; exact fr.refl.sI (by decide)
      have e2 : mI μ1 2 = nI p := by rw [e, mI_o (by decide)]; exact h2
      refine S_see e2 (hfr1.tok (by decide) (by decide) ht) (by omega) fun μ2 f2 => ?_
      have hT1 := (hfr1.txt (by decide) (by decide)).trans hT
      rw [hT1]
      have hfr2 : fr [2, 3, 4, 5, 10] μ μ2 := by rw [f2]; exact hfr1.sI (by decide)
      have g2 : mI μ2 2 = nI p := by rw [f2, mI_o (by decide)]; exact e2
      have g3 : mI μ2 3 = 1 := by rw [f2, mI_s]
      have g4 : mI μ2 4 = nI p := by rw [f2, mI_o (by decide), e, mI_s]; exact h2
      have hT2 := (hfr2.txt (by decide) (by decide)).trans hT
      have ht2 := hfr2.tok (by decide) (by decide) ht
      have hw2 := hfr2.wok0 (by decide) hw
      have hv : ∀ μ', fr [2, 3, 5, 10] μ2 μ' → mI μ' 2 = nI (lxe T p) → mI μ' 3 = lxt T p → (lxt T p = 3 → mI μ' 5 = lxv T p) → (lxt T p = 2 → mJ μ' 10 = lxn T p) → Q μ' := fun μ' k1 k2 k3 k4 k5 => h μ' (hfr2.trans (k1.more (by decide))) ⟨k2, k3, by rw [show mI μ' 4 = mI μ2 4 from (k1 4 (by decide)).1, g4, ea], k4, k5⟩
      refine ⟨fun c3 => S_isSmall ?_, fun c3 μ3 f3 => ?_⟩
      · by_cases hsm : cSm (T p) = true
        · rw [if_pos hsm]
          refine ⟨fun c => absurd c (by decide), fun _ μ3 f3 => ?_⟩
          have hfr3 : fr [2, 3, 5, 10] μ2 μ3 := by rw [f3]; exact fr.refl.sJ (by decide)
          have hE : lxe T p = spn cSm T 1001 p := by unfold lxe; rw [ea]; simp only [if_neg c3, if_pos hsm]
          have hX : lxt T p = if spn cSm T 1001 p - p ≤ 6 then wtk (lcd T p (spn cSm T 1001 p - p)) 22 else 1 := by unfold lxt; rw [ea, hE]; simp only [if_neg c3, if_pos hsm]
          refine S_l88 (T := T) (a := p) 1001 0 rfl ((hfr3.txt (by decide) (by decide)).trans hT2) (hfr3.tok (by decide) (by decide) ht2) (hfr3.wok0 (by decide) hw2) (by rw [f3]; exact g2) (by rw [f3, mJ_s]; rfl) (by omega) (by omega) (by rw [f3]; exact g3) fun μ' k1 k2 k3 k4 => hv μ' (hfr3.trans (k1.more (by decide))) (by rw [hE]; exact k2) (by rw [hX]; exact k3) (fun q => ?_) (fun q => ?_)
          · exfalso
            rw [hX] at q
            split at q
            · rcases (wtk_1 (c := lcd T p (spn cSm T 1001 p - p)) (n := 22) (by decide)).2 with w | ⟨k, w1, w2, -⟩
              · rw [w] at q; exact absurd q (by decide)
              · rw [w2] at q
                have e2 : nI (100 + k) = nI 3 := (nI_add 100 k).symm.trans q
                have := (nI_eq (by omega) (by decide)).mp e2
                omega
            · exact absurd q (by decide)
          · rw [k4]
            unfold lxn
            rw [ea, hE]
            rw [hX] at q
            split at q
            · rename_i hn
              rw [show p + 0 = p from rfl, Nat.min_eq_left (by omega)]
            · exact absurd q (by decide)
        · rw [if_neg hsm]
          refine ⟨fun _ => ?_, fun c => absurd rfl c⟩
          by_cases hdg : cDg (T p) = true
          · have hdg2 : 48 ≤ T p ∧ T p ≤ 57 := by unfold cDg at hdg; simpa using hdg
            refine S_isIn ⟨fun _ => ⟨fun c => absurd c (by decide), fun _ μ3 f3 => ?_⟩, fun c => absurd hdg2 c⟩
            have hfr3 : fr [2, 3, 5, 10] μ2 μ3 := by rw [f3]; exact fr.refl.sI (by decide)
            have hE : lxe T p = spn cDg T 1001 p := by unfold lxe; rw [ea]; simp only [if_neg c3, if_neg hsm, if_pos hdg]
            have hge := spn_ge (q := cDg) (T := T) 1001 p
            have hX : lxt T p = if spn cDg T 1001 p - p ≤ 6 ∧ cSm (T (spn cDg T 1001 p)) = false ∧ cGr (T (spn cDg T 1001 p)) = false then 3 else 1 := by unfold lxt; rw [ea, hE]; simp only [if_neg c3, if_neg hsm, if_pos hdg]; rw [show p + (spn cDg T 1001 p - p) = spn cDg T 1001 p by omega]
            refine S_l219 (T := T) (a := p) 1001 0 rfl ((hfr3.txt (by decide) (by decide)).trans hT2) (hfr3.tok (by decide) (by decide) ht2) (by rw [f3, mI_o (by decide)]; exact g2) (by rw [f3, mI_s]; rfl) (by omega) (by omega) (by rw [f3, mI_o (by decide)]; exact g3) fun μ' k1 k2 k3 k4 => hv μ' (hfr3.trans (k1.more (by decide))) (by rw [hE]; exact k2) (by rw [hX]; exact k3) (fun q => ?_) (fun q => ?_)
            · rw [k4]
              unfold lxv
              rw [ea, hE]
              rw [hX] at q
              split at q
              · rename_i hn
                rw [show p + 0 = p from rfl, Nat.min_eq_left hn.1]
              · exact absurd q (by decide)
            · exfalso
              rw [hX] at q
              split at q <;> exact absurd q (by decide)
          · have hdg2 : ¬ (48 ≤ T p ∧ T p ≤ 57) := by unfold cDg at hdg; simpa using hdg
            refine S_isIn ⟨fun c => absurd c hdg2, fun _ => ⟨fun _ => ?_, fun c => absurd rfl c⟩⟩
            have hE : lxe T p = if T p = 61 ∧ T (p + 1) = 61 then p + 2 else p + 1 := by unfold lxe; rw [ea]; simp only [if_neg c3, if_neg hsm, if_neg hdg]
            have hX : lxt T p = if T p = 61 ∧ T (p + 1) = 61 then 201 else if cSg (T p) = true then 200 + T p else 1 := by unfold lxt; rw [ea]; simp only [if_neg c3, if_neg hsm, if_neg hdg]
            have ho : ∀ μ', mI μ' 3 = lxt T p → fr [2, 3] μ2 μ' → mI μ' 2 = nI (lxe T p) → Q μ' := fun μ' k3 k1 k2 => hv μ' (k1.more (by decide)) k2 k3 (fun q => by
                exfalso
                rw [hX] at q
                split at q
                · exact absurd q (by decide)
                · split at q
                  · rename_i hs
                    rcases ht2.in_ p with w | ⟨b, hb, w⟩
                    · rw [hT2] at w; exact c3 w
                    · rw [hT2] at w
                      rw [w] at q
                      have e2 : nI (200 + b) = nI 3 := (nI_add 200 b).symm.trans q
                      have := (nI_eq (by omega) (by decide)).mp e2
                      omega
                  · exact absurd q (by decide)) (fun q => by
                exfalso
                rw [hX] at q
                split at q
                · exact absurd q (by decide)
                · split at q
                  · rename_i hs
                    rcases ht2.in_ p with w | ⟨b, hb, w⟩
                    · rw [hT2] at w; exact c3 w
                    · rw [hT2] at w
                      rw [w] at q
                      have e2 : nI (200 + b) = nI 2 := (nI_add 200 b).symm.trans q
                      have := (nI_eq (by omega) (by decide)).mp e2
                      omega
                  · exact absurd q (by decide))
            have yes : cSg (T p) = true → B_X6_look0_376 G ρ (d + 3) (T p) μ2 Q := fun hs => S_376 hT2 ht2 g2 hp fun μ' k1 k2 k3 => ho μ' (by rw [k3, hX, if_pos hs]) k1 (by rw [k2, hE])
            have no : cSg (T p) = false → ¬ T p = 61 → B_X6_look0_395 G ρ (d + 3) (T p) μ2 Q := fun hs hn => S_395 hT2 ht2 g2 hp fun μ' k1 k2 k3 => ho μ' (by rw [k3, hX, if_neg (fun h9 => hn h9.1), if_neg (fun h9 => hn h9.1), hs, g3]; rfl) k1 (by rw [k2, hE])
            refine ⟨fun c => yes (by rw [c]; rfl), fun n1 => ⟨fun c => yes (by rw [c]; rfl), fun n2 => ⟨fun c => yes (by rw [c]; rfl), fun n3 => ⟨fun c => yes (by rw [c]; rfl), fun n4 => ⟨fun c => yes (by rw [c]; rfl), fun n5 => ⟨fun c => yes (by rw [c]; rfl), fun n6 => ⟨fun c => yes (by rw [c]; rfl), fun n7 => ⟨fun c => yes (by rw [c]; rfl), fun n8 => ⟨fun c => yes (by rw [c]; rfl), fun n9 => ⟨fun c => yes (by rw [c]; rfl), fun n10 => ⟨fun n11 => no (cSg0 ⟨n1, n2, n3, n4, n5, n6, n7, n8, n9, n10, n11⟩) n6, fun c => yes (by rw [c]; rfl)⟩⟩⟩⟩⟩⟩⟩⟩⟩⟩⟩
      · have hE : lxe T p = p := by unfold lxe; rw [ea]; simp only [if_pos c3]
        have hX : lxt T p = 0 := by unfold lxt; rw [ea]; simp only [if_pos c3]
        refine hv μ3 (by rw [f3]; exact fr.refl.sI (by decide)) (by rw [f3, mI_o (by decide), hE]; exact g2) (by rw [f3, mI_s, hX]) (fun q => ?_) (fun q => ?_)
        · rw [hX] at q; exact absurd q (by decide)
        · rw [hX] at q; exact absurd q (by decide)))
end
