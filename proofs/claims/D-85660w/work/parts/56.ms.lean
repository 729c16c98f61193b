set_option maxRecDepth 100000
section
variable {G : am_G} {ρ : mm_F} {d : Nat} {T : Nat → Int32}
theorem S_opens {p c r : Nat} {N : ps_N} {μ : mm_S} {Q : Int32 → mm_S → Prop} (hI : PI T p N c μ) (h0 : ¬ lxt T p = 0) (hr : r ≤ 12) (h18 : mI μ 18 = nI (12 - r)) (hy : ∀ μ' s, r = s + 1 → fr [2, 3, 4, 5, 10, 18] μ μ' → mI μ' 18 = nI (12 - s) → PI T (lxe T p) N c μ' → Q 1 μ') (hn : ∀ μ', r = 0 → fr [11, 12] μ μ' → PF 3 (lxa T p) N μ' → Q 0 μ') : W_X6_opens G ρ (d + 4) μ Q := by
  refine W_X6_opens_f ?_
  rw [h18]
  refine ⟨fun c1 μ1 e1 => ?_, fun c1 => S_bad hI fun μ' g1 g2 => ⟨rfl, hn μ' ?_ g1 g2⟩⟩
  · have hr0 : ¬ r = 0 := fun e => c1 (by rw [e]; rfl)
    have g : fr [18] μ μ1 := by rw [e1]; exact fr.refl.sI (by decide)
    refine S_next (hI.fr g (by decide)) h0 fun μ' g1 g2 => hy μ' (r - 1) (by omega) ((g.more (by decide)).trans (g1.more (by decide))) ?_ g2
    rw [show mI μ' 18 = mI μ1 18 from (g1 18 (by decide)).1, e1, mI_s, show 12 - (r - 1) = 12 - r + 1 by omega]
    exact nI_1 _
  · have := (nI_eq (show 12 - r < 2 ^ 31 by omega) (show 12 < 2 ^ 31 by decide)).mp c1
    omega
/-- a leaf -/
theorem S_leaf {p c : Nat} {N : ps_N} {μ : mm_S} {Q : Int32 → mm_S → Prop} {t : Term} {o x : Int32} (hI : PI T p N c μ) (hc : c ≤ p) (h0 : ¬ lxt T p = 0) (hE : ∀ (nd : Nat → Int32) (k : Nat), nf nd 8400 k 0 = o → nf nd 8400 k 1 = x → isE nd 8400 k t k) (hQ : ∀ v μ', PP T p c (ps_ok t (lxe T p) N) μ v μ' → Q v μ') : W_X6_node G ρ (d + 3) o x 0 0 μ (fun v2 μ1 => (∀ μ3 : mm_S, μ3 = mm_sI μ1 19 v2 → (W_X6_look0 G ρ (d + 3) μ3 (fun μ4 => Q 1 μ4)))) := by
  have hp1000 := hI.2.2.2.2.1
  refine S_node hI (by omega) fun μ1 g1 g2 g3 n0 n1 n2 n3 n4 μ3 e3 => ?_
  have gf : fr [19] μ1 μ3 := by rw [e3]; exact fr.refl.sI (by decide)
  refine S_next (g3.fr gf (by decide)) h0 fun μ4 f1 i4 => hQ 1 μ4 ⟨((g1.more (by decide)).trans (gf.more (by decide))).trans (f1.more (by decide)), rfl, lxe_gt h0, ?_, ?_, c + 1, c, i4, by omega, ?_, by omega, ?_, ?_⟩
  · rw [show mI μ4 18 = mI μ3 18 from (f1 18 (by decide)).1, show mI μ3 18 = mI μ1 18 from (gf 18 (by decide)).1]
    exact (g1 18 (by decide)).1
  · exact ((g2.trans (gf.fn (by decide) c) (Nat.le_refl _)).trans (f1.fn (by decide) c) (Nat.le_refl _))
  · have := lxe_gt h0
    omega
  · rw [show mI μ4 19 = mI μ3 19 from (f1 19 (by decide)).1, e3, mI_s]
  · have e : mA μ4 15 = mA μ1 15 := by rw [show mA μ4 15 = mA μ3 15 from (f1 15 (by decide)).2.2.1, e3]; rfl
    rw [e]
    exact hE _ _ n0 n1
theorem S_unit1 {r : Nat} (hr : r ≤ 12) (hd : r = 0 ∨ 4 ≤ d) (ih : ∀ s, r = s + 1 → SubM (W_X6_unit G ρ (d + 4)) T (nI (12 - s)) (ps_unit T s) ∧ ∀ d1, d = d1 + 4 → SubM (W_X6_unit G ρ (d1 + 5)) T (nI (12 - s)) (ps_unit T s)) : SubM (W_X6_unit G ρ (d + 5)) T (nI (12 - r)) (ps_unit T r) := by
  intro p N c μ Q hI hc h18 hQ
  have e3 : mI μ 3 = lxt T p := hI.2.2.2.1.2.1
  have hp1000 := hI.2.2.2.2.1
  unfold ps_unit at hQ
  refine W_X6_unit_f ?_
  rw [e3]
  refine ⟨fun n3 => ⟨fun n2 => ⟨fun c1 => ⟨fun c2 => absurd c1 c2, fun _ => ?_⟩, fun n114 => ⟨fun n115 => S_isSign hI ?_, fun c1 => ⟨fun _ => ?_, fun c2 => absurd c2 n114⟩⟩⟩, fun c2 => ?_⟩, fun c3 => ?_⟩
  · rw [if_neg n3, if_neg n2, if_pos c1] at hQ
    exact B_X6_unit_97_f (S_leaf (d := d + 1) (t := Term.null) hI hc (by rw [c1]; decide) (fun nd k a b => ⟨Nat.le_refl k, a⟩) hQ)
  · rw [if_neg n3, if_neg n2, if_neg n114, if_neg n115] at hQ
    by_cases h1 : lxt T p = 200 + 45
    · have h1' : lxt T p = 245 := h1
      have hgt : p < lxe T p := lxe_gt (by rw [h1']; decide)
      rw [if_pos h1'] at hQ
      rw [if_pos h1]
      refine ⟨fun c1 => absurd c1 (by decide), fun _ => S_opens hI (by rw [h1']; decide) hr h18 (fun μ' s e g1 g2 g3 => ?_) fun μ' e g1 g2 => ?_⟩
      · subst e
        refine ⟨fun c1 => absurd c1 (by decide), fun _ => (ih s rfl).1 (lxe T p) N c μ' _ g3 (by omega) g2 fun v μ2 hP => ?_⟩
        obtain ⟨hf2, hP⟩ := hP
        have hQ2 : ∀ v μ', PP T p c (ps_b (ps_unit T s (lxe T p) N) fun a p' N' => ps_ok (Term.old a) p' N') μ v μ' → Q v μ' := hQ
        generalize hw : ps_unit T s (lxe T p) N = w at hP hQ2
        have hfr2 : fr [2, 3, 4, 5, 6, 7, 10, 11, 12, 15, 16, 17, 18, 19] μ μ2 := (g1.more (by decide)).trans hf2
        match w, hP with
        | (.inl (kd, q), N'), hP =>
          obtain ⟨hv, hkd, hF⟩ := hP
          subst hv
          exact ⟨fun c1 => absurd rfl c1, fun _ => hQ2 0 μ2 ⟨hfr2, rfl, hkd, hF.1, (g1.fn (by decide) c).trans hF.2 (Nat.le_refl _)⟩⟩
        | (.inr (a, p'), N'), hP =>
          obtain ⟨hv, hpp, h18', hfn, c', k, i1, hcc, hcp, hk, h19, hE⟩ := hP
          subst hv
          have hp2 := i1.2.2.2.2.1
          refine ⟨fun _ μ3 f3 => ?_, fun c1 => absurd c1 (by decide)⟩
          have gf : fr [18] μ2 μ3 := by rw [f3]; exact fr.refl.sI (by decide)
          refine S_node (i1.fr gf (by decide)) (by omega) fun μ4 k1 k2 k3 n0 n1 n2 n3 n4 μ5 f5 => ?_
          have gf5 : fr [19] μ4 μ5 := by rw [f5]; exact fr.refl.sI (by decide)
          have e15 : mA μ5 15 = mA μ4 15 := by rw [f5]; rfl
          refine hQ2 1 μ5 ⟨((hfr2.trans (gf.more (by decide))).trans (k1.more (by decide))).trans (gf5.more (by decide)), rfl, by omega, ?_, ?_, c' + 1, c', k3.fr gf5 (by decide), by omega, by omega, by omega, ?_, ?_⟩
          · rw [show mI μ5 18 = mI μ4 18 from (gf5 18 (by decide)).1, show mI μ4 18 = mI μ3 18 from (k1 18 (by decide)).1, f3, mI_s, h18', g2, h18, show 12 - s = 12 - (s + 1) + 1 by omega]
            exact nI_pred _
          · exact (((g1.fn (by decide) c).trans hfn (Nat.le_refl _)).trans (gf.fn (by decide) c) (Nat.le_refl _)).trans (fun q hq => by rw [e15]; exact k2 q (by omega)) (Nat.le_refl c)
          · rw [f5, mI_s]
          · rw [e15]
            refine ⟨by omega, n0, k, hk, by rw [n1, show mI μ3 19 = mI μ2 19 from (gf 19 (by decide)).1, h19], ?_⟩
            exact fn.isE (c := c') (fun q hq => (k2 q hq).trans (gf.fn (by decide) c' q hq)) hk hE
      · subst e
        exact ⟨fun _ => hQ 0 μ' ⟨g1.more (by decide), rfl, by decide, g2, g1.fn (by decide) c⟩, fun c1 => absurd rfl c1⟩
    · have h1' : ¬ lxt T p = 245 := h1
      rw [if_neg h1'] at hQ
      rw [if_neg h1]
      refine ⟨fun _ => S_isSign hI ?_, fun c1 => absurd rfl c1⟩
      by_cases h2 : lxt T p = 200 + 40
      · have h2' : lxt T p = 240 := h2
        have hgt : p < lxe T p := lxe_gt (by rw [h2']; decide)
        rw [if_pos h2'] at hQ
        rw [if_pos h2]
        refine ⟨fun _ => S_opens hI (by rw [h2']; decide) hr h18 (fun μ' s e g1 g2 g3 => ?_) fun μ' e g1 g2 => ?_, fun c1 => absurd c1 (by decide)⟩
        · subst e
          obtain ⟨d1, rfl⟩ : ∃ d1, d = d1 + 4 := ⟨d - 4, by have := hd.resolve_left (by omega); omega⟩
          refine ⟨fun c1 => absurd c1 (by decide), fun _ => S_exp (S_sum (S_product ((ih s rfl).2 d1 rfl))) (lxe T p) N c μ' _ g3 (by omega) g2 fun v μ2 hP => ?_⟩
          obtain ⟨hf2, hP⟩ := hP
          have hQ2 : ∀ v μ', PP T p c (ps_b (ps_exp T (ps_unit T s) (lxe T p) N) fun a p' N' => ps_b (ps_need T 41 p' N') fun _ p2 N2 => ps_ok a p2 N2) μ v μ' → Q v μ' := hQ
          generalize hw : ps_exp T (ps_unit T s) (lxe T p) N = w at hP hQ2
          have hfr2 : fr [2, 3, 4, 5, 6, 7, 10, 11, 12, 15, 16, 17, 18, 19] μ μ2 := (g1.more (by decide)).trans hf2
          match w, hP with
          | (.inl (kd, q), N'), hP =>
            obtain ⟨hv, hkd, hF⟩ := hP
            subst hv
            exact ⟨fun _ => hQ2 0 μ2 ⟨hfr2, rfl, hkd, hF.1, (g1.fn (by decide) c).trans hF.2 (Nat.le_refl _)⟩, fun c1 => absurd rfl c1⟩
          | (.inr (a, p'), N'), hP =>
            obtain ⟨hv, hpp, h18', hfn, c', k, i1, hcc, hcp, hk, h19, hE⟩ := hP
            subst hv
            refine ⟨fun c1 => absurd c1 (by decide), fun _ => S_need (by decide) i1 (fun μ3 hs f3 i3 => ⟨fun _ μ4 f4 => ?_, fun c1 => absurd c1 (by decide)⟩) fun μ3 hs f3 i3 => ⟨fun c1 => absurd rfl c1, fun _ => ?_⟩⟩
            · have gf : fr [18] μ3 μ4 := by rw [f4]; exact fr.refl.sI (by decide)
              have hgt2 : p' < lxe T p' := lxe_gt (by rw [hs]; decide)
              have e : (ps_b ((.inr (a, p'), N') : ps_R Term) fun a p' N' => ps_b (ps_need T 41 p' N') fun _ p2 N2 => ps_ok a p2 N2) = ps_ok a (lxe T p') N' := by
                show (ps_b (ps_need T 41 p' N') fun _ p2 N2 => ps_ok a p2 N2) = _
                unfold ps_need
                rw [if_pos hs]
                rfl
              rw [e] at hQ2
              refine hQ2 1 μ4 ⟨(hfr2.trans (f3.more (by decide))).trans (gf.more (by decide)), rfl, by omega, ?_, ?_, c', k, i3.fr gf (by decide), hcc, by omega, hk, ?_, ?_⟩
              · rw [f4, mI_s, show mI μ3 18 = mI μ2 18 from (f3 18 (by decide)).1, h18', g2, h18, show 12 - s = 12 - (s + 1) + 1 by omega]
                exact nI_pred _
              · exact (((g1.fn (by decide) c).trans hfn (Nat.le_refl _)).trans (f3.fn (by decide) c) (Nat.le_refl _)).trans (gf.fn (by decide) c) (Nat.le_refl _)
              · rw [show mI μ4 19 = mI μ3 19 from (gf 19 (by decide)).1, show mI μ3 19 = mI μ2 19 from (f3 19 (by decide)).1, h19]
              · exact fn.isE ((f3.fn (by decide) c').trans (gf.fn (by decide) c') (Nat.le_refl _)) hk hE
            · have e : (ps_b ((.inr (a, p'), N') : ps_R Term) fun a p' N' => ps_b (ps_need T 41 p' N') fun _ p2 N2 => ps_ok a p2 N2) = ps_f 1 (lxa T p') N' := by
                show (ps_b (ps_need T 41 p' N') fun _ p2 N2 => ps_ok a p2 N2) = _
                unfold ps_need
                rw [if_neg hs]
                rfl
              rw [e] at hQ2
              exact hQ2 0 μ3 ⟨hfr2.trans (f3.more (by decide)), rfl, by decide, i3, ((g1.fn (by decide) c).trans hfn (Nat.le_refl _)).trans (f3.fn (by decide) c) (Nat.le_refl _)⟩
        · subst e
          exact ⟨fun _ => hQ 0 μ' ⟨g1.more (by decide), rfl, by decide, g2, g1.fn (by decide) c⟩, fun c1 => absurd rfl c1⟩
      · have h2' : ¬ lxt T p = 240 := h2
        rw [if_neg h2'] at hQ
        rw [if_neg h2]
        exact ⟨fun c1 => absurd rfl c1, fun _ => S_bad hI fun μ' g1 g2 => ⟨rfl, hQ 0 μ' ⟨g1.more (by decide), rfl, by decide, g2, g1.fn (by decide) c⟩⟩⟩
  · rw [if_neg n3, if_neg n2, if_neg n114, if_pos c1] at hQ
    exact B_X6_unit_97_f (S_leaf (d := d + 1) (t := Term.result) hI hc (by rw [c1]; decide) (fun nd k a b => ⟨Nat.le_refl k, a⟩) hQ)
  · have n3 : ¬ lxt T p = 3 := by rw [c2]; decide
    rw [if_neg n3, if_pos c2] at hQ
    refine S_named hI (fun μ1 k p' N' hn hk40 hkN g1 g2 i1 hpp => ⟨fun _ => ?_, fun c1 => absurd c1 (by decide)⟩) fun μ1 k q N' hn hk g1 g2 => ⟨fun c1 => absurd rfl c1, fun _ => ?_⟩
    · rw [hn] at hQ
      have hp2 := i1.2.2.2.2.1
      rw [g2]
      refine S_node i1 (by omega) fun μ4 k1 k2 k3 n0 n1 n2 n3 n4 μ5 f5 => ?_
      have gf5 : fr [19] μ4 μ5 := by rw [f5]; exact fr.refl.sI (by decide)
      have e15 : mA μ5 15 = mA μ4 15 := by rw [f5]; rfl
      refine hQ 1 μ5 ⟨((g1.more (by decide)).trans (k1.more (by decide))).trans (gf5.more (by decide)), rfl, hpp, ?_, ?_, c + 1, c, k3.fr gf5 (by decide), by omega, by omega, by omega, ?_, ?_⟩
      · exact ((gf5 18 (by decide)).1.trans (k1 18 (by decide)).1).trans (g1 18 (by decide)).1
      · exact (g1.fn (by decide) c).trans (fun q hq => by rw [e15]; exact k2 q hq) (Nat.le_refl c)
      · rw [f5, mI_s]
      · rw [e15]
        exact ⟨Nat.le_refl c, n0, n1, hk40⟩
    · rw [hn] at hQ
      exact hQ 0 μ1 ⟨g1.more (by decide), rfl, hk, g2, g1.fn (by decide) c⟩
  · rw [if_pos c3] at hQ
    exact S_leaf (d := d + 1) (t := Term.int (lxv T p)) hI hc (by rw [c3]; decide) (fun nd k a b => ⟨Nat.le_refl k, a, b.trans (hI.2.2.2.1.2.2.2.1 c3)⟩) hQ
theorem S_unit : ∀ (r : Nat), r ≤ 12 → ∀ d : Nat, 4 * r ≤ d → SubM (W_X6_unit G ρ (d + 5)) T (nI (12 - r)) (ps_unit T r)
  | 0, hr, d, hd => S_unit1 hr (Or.inl rfl) fun s e => absurd e (by omega)
  | r + 1, hr, d, hd => S_unit1 hr (Or.inr (by omega)) fun s e => by
    cases e
    refine ⟨?_, fun d1 e1 => ?_⟩
    · obtain ⟨d2, rfl⟩ : ∃ d2, d = d2 + 1 := ⟨d - 1, by omega⟩
      exact S_unit r (by omega) d2 (by omega)
    · exact S_unit r (by omega) d1 (by omega)
end
