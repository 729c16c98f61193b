set_option maxRecDepth 100000
section
variable {G : am_G} {ρ : mm_F} {d : Nat} {T : Nat → Int32} {ns : Int32}
theorem S_exp47 {un : Nat → ps_N → ps_R Term} (hs : SubM (W_X6_sum G ρ (d + 5)) T ns (ps_sum T un)) {p0 c0 : Nat} (hcp0 : c0 ≤ p0) {μ0 : mm_S} (h18 : mI μ0 18 = ns) {Q : Int32 → mm_S → Prop} {res : ps_R Term} (hQ : ∀ v μ', PP T p0 c0 res μ0 v μ' → Q v μ') {a : Term} {p : Nat} {N : ps_N} {c k : Nat} {μ : mm_S} (hp0 : p0 < p) (hfr : fr [2, 3, 4, 5, 6, 7, 10, 11, 12, 15, 16, 17, 18, 19] μ0 μ) (hn : mI μ 18 = ns) (hfn : fn c0 μ0 μ) (hI : PI T p N c μ) (hc0 : c0 ≤ c) (hc : c + p0 ≤ p + c0) (hk : k < c) (h19 : mI μ 19 = nI k) (hE : isE (mA μ 15) 8400 c0 a k) {o : Int32} {mk9 : Term → Term → Term} (hmk : ∀ (nd : Nat → Int32) (x y : Term) (z : Nat), isE nd 8400 c0 (mk9 x y) z ↔ c0 ≤ z ∧ nf nd 8400 z 0 = o ∧ ∃ i j, i < z ∧ j < z ∧ nf nd 8400 z 1 = nI i ∧ nf nd 8400 z 2 = nI j ∧ isE nd 8400 c0 x i ∧ isE nd 8400 c0 y j) (h0 : ¬ lxt T p = 0) (hr : (ps_b (ps_sum T un (lxe T p) N) fun b p2 N2 => ps_ok (mk9 a b) p2 N2) = res) : B_X6_expression_47 G ρ (d + 6) o μ Q := by
  refine B_X6_expression_47_f (S_next (d := d + 2) hI h0 fun μ1 f1 i1 => ?_)
  have hgt := lxe_gt h0
  have e18 : mI μ1 18 = ns := (f1 18 (by decide)).1.trans hn
  refine hs (lxe T p) N c μ1 _ i1 (by omega) e18 fun v μ2 hP => ?_
  obtain ⟨hf2, hP⟩ := hP
  have hfr2 : fr [2, 3, 4, 5, 6, 7, 10, 11, 12, 15, 16, 17, 18, 19] μ0 μ2 := (hfr.trans (f1.more (by decide))).trans hf2
  generalize hw : ps_sum T un (lxe T p) N = w at hP hr
  match w, hP with
  | (.inl (kd, q), N'), hP =>
    obtain ⟨hv, hkd, hF⟩ := hP
    subst hv
    refine ⟨fun c1 => absurd rfl c1, fun _ => hQ 0 μ2 ⟨hfr2, ?_⟩⟩
    have hr2 : (((.inl (kd, q) : (Int32 × Nat) ⊕ (Term × Nat)), N') : ps_R Term) = res := hr
    rw [← hr2]
    exact ⟨rfl, hkd, hF.1, (hfn.trans (f1.fn (by decide) c0) (Nat.le_refl _)).trans hF.2 hc0⟩
  | (.inr (b, p'), N'), hP =>
    obtain ⟨hv, hpp, h18', hfn2, c', j, i2, hcc, hcp, hj, h19', hE2⟩ := hP
    subst hv
    have hr2 : (((.inr (mk9 a b, p') : (Int32 × Nat) ⊕ (Term × Nat)), N') : ps_R Term) = res := hr
    have hp1000 := i2.2.2.2.2.1
    refine ⟨fun _ => S_node i2 (by omega) fun μ3 g1 g2 g3 n0 n1 n2 n3 n4 μ4 e4 => ?_, fun c1 => absurd c1 (by decide)⟩
    have hf4 : fr [15, 16, 19] μ2 μ4 := by rw [e4]; exact (g1.more (by decide)).sI (by decide)
    have e15 : mA μ4 15 = mA μ3 15 := by rw [e4]; rfl
    have hfn1 : fn c μ μ1 := f1.fn (by decide) c
    have hfn3 : fn c' μ2 μ4 := fun q hq => by rw [e15]; exact g2 q hq
    have hfnA : fn c μ μ4 := (hfn1.trans hfn2 (Nat.le_refl _)).trans hfn3 hcc
    refine hQ 1 μ4 ⟨hfr2.trans (hf4.more (by decide)), ?_⟩
    rw [← hr2]
    refine ⟨rfl, by omega, ?_, hfn.trans hfnA hc0, c' + 1, c', ?_, by omega, by omega, by omega, ?_, ?_⟩
    · rw [show mI μ4 18 = mI μ2 18 from (hf4 18 (by decide)).1, h18', e18, h18]
    · rw [e4]
      exact g3.fr ((fr.refl (ks := [19])).sI (by decide)) (by decide)
    · rw [e4, mI_s]
    · rw [hmk, e15]
      refine ⟨by omega, n0, k, j, by omega, hj, by rw [n1, h19], by rw [n2, h19'], ?_, ?_⟩
      · have := hfnA.isE hk hE
        rw [e15] at this
        exact this
      · have := hfn3.isE hj (hE2.lo hc0)
        rw [e15] at this
        exact this
theorem S_exp {un : Nat → ps_N → ps_R Term} (hs : SubM (W_X6_sum G ρ (d + 5)) T ns (ps_sum T un)) : SubM (W_X6_expression G ρ (d + 6)) T ns (ps_exp T un) := fun p N c μ Q hI hc h18 hQ => by
  refine W_X6_expression_f (hs p N c μ _ hI hc h18 fun v μ1 hP => ?_)
  obtain ⟨hf1, hP⟩ := hP
  unfold ps_exp at hQ
  generalize hw : ps_sum T un p N = w at hP hQ
  match w, hP with
  | (.inl (kd, q), N'), hP =>
    obtain ⟨hv, hkd, hF⟩ := hP
    subst hv
    exact ⟨fun c1 => absurd rfl c1, fun _ => hQ 0 μ1 ⟨hf1, rfl, hkd, hF⟩⟩
  | (.inr (a, p'), N'), hP =>
    obtain ⟨hv, hpp, h18', hfn, c', k, i1, hcc, hcp, hk, h19, hE⟩ := hP
    subst hv
    have e3 : mI μ1 3 = lxt T p' := i1.2.2.2.1.2.1
    refine ⟨fun _ => S_isSign i1 ?_, fun c1 => absurd c1 (by decide)⟩
    rw [e3]
    by_cases h1 : lxt T p' = 200 + 60
    · have h1' : lxt T p' = 260 := h1
      rw [if_pos h1]
      refine ⟨fun _ => ⟨fun _ => ?_, fun c1 => absurd (h1'.symm.trans c1) (by decide)⟩, fun c1 => absurd c1 (by decide)⟩
      refine S_exp47 hs hc h18 hQ hpp hf1 (h18'.trans h18) hfn i1 hcc hcp hk h19 hE (o := 14) (mk9 := Term.elem) (fun _ _ _ _ => Iff.rfl) (by rw [h1']; decide) ?_
      show _ = (if lxt T p' = 260 then _ else _)
      rw [if_pos h1']
    · have h1' : ¬ lxt T p' = 260 := h1
      rw [if_neg h1]
      refine ⟨fun c1 => absurd rfl c1, fun _ => ?_⟩
      by_cases h2 : lxt T p' = 201
      · refine ⟨fun _ => ⟨fun c1 => absurd h2 c1, fun _ => ?_⟩, fun c1 => absurd h2 c1⟩
        refine S_exp47 hs hc h18 hQ hpp hf1 (h18'.trans h18) hfn i1 hcc hcp hk h19 hE (o := 15) (mk9 := Term.rem) (fun _ _ _ _ => Iff.rfl) (by rw [h2]; decide) ?_
        show _ = (if lxt T p' = 260 then _ else if lxt T p' = 201 then _ else _)
        rw [if_neg h1', if_pos h2]
      · refine ⟨fun c1 => absurd c1 h2, fun _ => hQ 1 μ1 ⟨hf1, ?_⟩⟩
        have e : (ps_b ((.inr (a, p'), N') : ps_R Term) fun a p' N' => if lxt T p' = 260 then ps_b (ps_sum T un (lxe T p') N') fun b p2 N2 => ps_ok (Term.elem a b) p2 N2 else if lxt T p' = 201 then ps_b (ps_sum T un (lxe T p') N') fun b p2 N2 => ps_ok (Term.rem a b) p2 N2 else ps_ok a p' N') = ((.inr (a, p'), N') : ps_R Term) := by
          show (if lxt T p' = 260 then _ else if lxt T p' = 201 then _ else _) = _
          rw [if_neg h1', if_neg h2]
          rfl
        rw [e]
        exact ⟨rfl, hpp, h18', hfn, c', k, i1, hcc, hcp, hk, h19, hE⟩
end
