set_option maxRecDepth 100000
/-- how a thing is read: v the answer, mu' the model then -/
def PP (T : Nat → Int32) (p : Nat) (c : Nat) (res : ps_R Term) (μ : mm_S) (v : Int32) (μ' : mm_S) : Prop := fr [2, 3, 4, 5, 6, 7, 10, 11, 12, 15, 16, 17, 18, 19] μ μ' ∧ match res with
  | (.inl (k, q), N') => v = 0 ∧ ¬ k = 0 ∧ PF k q N' μ' ∧ fn c μ μ'
  | (.inr (t, p'), N') => v = 1 ∧ p < p' ∧ mI μ' 18 = mI μ 18 ∧ fn c μ μ' ∧ ∃ c' k, PI T p' N' c' μ' ∧ c ≤ c' ∧ c' + p ≤ p' + c ∧ k < c' ∧ mI μ' 19 = nI k ∧ isE (mA μ' 15) 8400 c t k
def SubM (W : mm_S → (Int32 → mm_S → Prop) → Prop) (T : Nat → Int32) (ns : Int32) (ps : Nat → ps_N → ps_R Term) : Prop := ∀ (p : Nat) (N : ps_N) (c : Nat) (μ : mm_S) (Q : Int32 → mm_S → Prop), PI T p N c μ → c ≤ p → mI μ 18 = ns → (∀ v μ', PP T p c (ps p N) μ v μ' → Q v μ') → W μ Q
theorem fn.isE {c k lo : Nat} {μ μ' : mm_S} {t : Term} (h : fn c μ μ') (hk : k < c) (hE : isE (mA μ 15) 8400 lo t k) : isE (mA μ' 15) 8400 lo t k := isE.mono (m := c) (fun q _ hq => h q hq) hk hE
section
variable {G : am_G} {ρ : mm_F} {d : Nat} {T : Nat → Int32} {ns : Int32}
/-- the loop behind the first -/
theorem S_product_l {un : Nat → ps_N → ps_R Term} (hs : SubM (W_X6_unit G ρ (d + 4)) T ns un) {p0 c0 : Nat} (hcp0 : c0 ≤ p0) {μ0 : mm_S} (h18 : mI μ0 18 = ns) {Q : Int32 → mm_S → Prop} {res : ps_R Term} (hQ : ∀ v μ', PP T p0 c0 res μ0 v μ' → Q v μ') : ∀ (g : Nat) (a : Term) (p : Nat) (N : ps_N) (c k : Nat) (μ : mm_S), 1001 ≤ p + g → p0 < p → fr [2, 3, 4, 5, 6, 7, 10, 11, 12, 15, 16, 17, 18, 19] μ0 μ → mI μ 18 = ns → fn c0 μ0 μ → PI T p N c μ → c0 ≤ c → c + p0 ≤ p + c0 → k < c → mI μ 19 = nI k → isE (mA μ 15) 8400 c0 a k → ps_loop T ps_mul un g a p N = res → B_X6_product_9 G ρ (d + 5) μ Q
  | 0, a, p, N, c, k, μ, hg, hp0, hfr, hn, hfn, hI, hc0, hc, hk, h19, hE, hr => by
    have := hI.2.2.2.2.1
    omega
  | g + 1, a, p, N, c, k, μ, hg, hp0, hfr, hn, hfn, hI, hc0, hc, hk, h19, hE, hr => by
    have go : ∀ (o : Int32) (mk9 : Term → Term → Term), (∀ (nd : Nat → Int32) (x y : Term) (z : Nat), isE nd 8400 c0 (mk9 x y) z ↔ c0 ≤ z ∧ nf nd 8400 z 0 = o ∧ ∃ i j, i < z ∧ j < z ∧ nf nd 8400 z 1 = nI i ∧ nf nd 8400 z 2 = nI j ∧ isE nd 8400 c0 x i ∧ isE nd 8400 c0 y j) → ¬ lxt T p = 0 → ps_mul (lxt T p) = some mk9 → B_X6_product_43 G ρ (d + 5) o μ Q := fun o mk9 hmk h0 hop => by
      unfold ps_loop at hr
      rw [hop] at hr
      refine B_X6_product_43_f (S_next (d := d + 1) hI h0 fun μ1 f1 i1 => ?_)
      have hgt := lxe_gt h0
      have e18 : mI μ1 18 = ns := (f1 18 (by decide)).1.trans hn
      refine hs (lxe T p) N c μ1 _ i1 (by omega) e18 fun v μ2 hP => ?_
      obtain ⟨hf2, hP⟩ := hP
      have hfr2 : fr [2, 3, 4, 5, 6, 7, 10, 11, 12, 15, 16, 17, 18, 19] μ0 μ2 := (hfr.trans (f1.more (by decide))).trans hf2
      generalize hw : un (lxe T p) N = w at hP hr
      match w, hP with
      | (.inl (kd, q), N'), hP =>
        obtain ⟨hv, hkd, hF⟩ := hP
        subst hv
        refine ⟨fun c1 => absurd rfl c1, fun _ => hQ 0 μ2 ⟨hfr2, ?_⟩⟩
        have hr2 : (((.inl (kd, q) : (Int32 × Nat) ⊕ (Term × Nat)), N') : ps_R Term) = res := hr
        rw [← hr2]
        exact ⟨rfl, hkd, hF.1, (hfn.trans (f1.fn (by decide) c0) (Nat.le_refl _)).trans hF.2 hc0⟩
      | (.inr (b, p'), N'), hP =>
        obtain ⟨hv, hpp, h18', hfn2, c', j, i2, hcc, hcp, hj, h19', hE2⟩ := hP
        subst hv
        have hr2 : ps_loop T ps_mul un g (mk9 a b) p' N' = res := hr
        have hp1000 := i2.2.2.2.2.1
        refine ⟨fun _ => S_node i2 (by omega) fun μ3 g1 g2 g3 n0 n1 n2 n3 n4 μ4 e4 => ?_, fun c1 => absurd c1 (by decide)⟩
        have hf4 : fr [15, 16, 19] μ2 μ4 := by rw [e4]; exact (g1.more (by decide)).sI (by decide)
        have e15 : mA μ4 15 = mA μ3 15 := by rw [e4]; rfl
        have hfn1 : fn c μ μ1 := f1.fn (by decide) c
        have hfn3 : fn c' μ2 μ4 := fun q hq => by rw [e15]; exact g2 q hq
        have hfnA : fn c μ μ4 := (hfn1.trans hfn2 (Nat.le_refl _)).trans hfn3 hcc
        refine S_product_l hs hcp0 h18 hQ g (mk9 a b) p' N' (c' + 1) c' μ4 (by omega) (by omega) (hfr2.trans (hf4.more (by decide))) ?_ (hfn.trans hfnA hc0) ?_ (by omega) (by omega) (by omega) ?_ ?_ hr2
        · rw [show mI μ4 18 = mI μ2 18 from (hf4 18 (by decide)).1, h18', e18]
        · rw [e4]
          exact g3.fr ((fr.refl (ks := [19])).sI (by decide)) (by decide)
        · rw [e4, mI_s]
        · rw [hmk, e15]
          refine ⟨by omega, n0, k, j, by omega, hj, by rw [n1, h19], by rw [n2, h19'], ?_, ?_⟩
          · have := hfnA.isE hk hE
            rw [e15] at this
            exact this
          · have := hfn3.isE hj (hE2.lo hc0)
            rw [e15] at this
            exact this
    refine B_X6_product_9_f (S_isSign hI ?_)
    by_cases h1 : lxt T p = 200 + 42
    · rw [if_pos h1]
      refine ⟨fun _ => S_isSign hI ?_, fun c1 => absurd c1 (by decide)⟩
      rw [if_pos h1]
      refine ⟨fun c1 => absurd c1 (by decide), fun _ => go 12 Term.mul (fun _ _ _ _ => Iff.rfl) (by rw [h1]; decide) ?_⟩
      rw [h1]; rfl
    · rw [if_neg h1]
      refine ⟨fun c1 => absurd rfl c1, fun _ => S_isSign hI ?_⟩
      by_cases h2 : lxt T p = 200 + 47
      · rw [if_pos h2]
        refine ⟨fun c1 => absurd c1 (by decide), fun _ => S_isSign hI ?_⟩
        rw [if_neg h1]
        refine ⟨fun _ => go 13 Term.div (fun _ _ _ _ => Iff.rfl) (by rw [h2]; decide) ?_, fun c1 => absurd rfl c1⟩
        rw [h2]; rfl
      · rw [if_neg h2]
        refine ⟨fun _ => hQ 1 μ ⟨hfr, ?_⟩, fun c1 => absurd rfl c1⟩
        unfold ps_loop at hr
        have hop : ps_mul (lxt T p) = none := by
          unfold ps_mul
          rw [if_neg (show ¬ lxt T p = 242 from h1), if_neg (show ¬ lxt T p = 247 from h2)]
        rw [hop] at hr
        have hr2 : (((.inr (a, p) : (Int32 × Nat) ⊕ (Term × Nat)), N) : ps_R Term) = res := hr
        rw [← hr2]
        exact ⟨rfl, hp0, by rw [hn, h18], hfn, c, k, hI, hc0, hc, hk, h19, hE⟩
theorem S_product {un : Nat → ps_N → ps_R Term} (hs : SubM (W_X6_unit G ρ (d + 4)) T ns un) : SubM (W_X6_product G ρ (d + 5)) T ns (ps_prod T un) := fun p N c μ Q hI hc h18 hQ => by
  refine W_X6_product_f (hs p N c μ _ hI hc h18 fun v μ1 hP => ?_)
  obtain ⟨hf1, hP⟩ := hP
  unfold ps_prod at hQ
  generalize hw : un p N = w at hP hQ
  match w, hP with
  | (.inl (kd, q), N'), hP =>
    obtain ⟨hv, hkd, hF⟩ := hP
    subst hv
    exact ⟨fun c1 => absurd rfl c1, fun _ => hQ 0 μ1 ⟨hf1, rfl, hkd, hF⟩⟩
  | (.inr (a, p'), N'), hP =>
    obtain ⟨hv, hpp, h18', hfn, c', k, i1, hcc, hcp, hk, h19, hE⟩ := hP
    subst hv
    exact ⟨fun _ => S_product_l hs hc h18 hQ 1001 a p' N' c' k μ1 (by omega) hpp hf1 (h18'.trans h18) hfn i1 hcc hcp hk h19 hE rfl, fun c1 => absurd c1 (by decide)⟩
/-- the loop behind the first -/
theorem S_sum_l {un : Nat → ps_N → ps_R Term} (hs : SubM (W_X6_product G ρ (d + 4)) T ns un) {p0 c0 : Nat} (hcp0 : c0 ≤ p0) {μ0 : mm_S} (h18 : mI μ0 18 = ns) {Q : Int32 → mm_S → Prop} {res : ps_R Term} (hQ : ∀ v μ', PP T p0 c0 res μ0 v μ' → Q v μ') : ∀ (g : Nat) (a : Term) (p : Nat) (N : ps_N) (c k : Nat) (μ : mm_S), 1001 ≤ p + g → p0 < p → fr [2, 3, 4, 5, 6, 7, 10, 11, 12, 15, 16, 17, 18, 19] μ0 μ → mI μ 18 = ns → fn c0 μ0 μ → PI T p N c μ → c0 ≤ c → c + p0 ≤ p + c0 → k < c → mI μ 19 = nI k → isE (mA μ 15) 8400 c0 a k → ps_loop T ps_add un g a p N = res → B_X6_sum_9 G ρ (d + 5) μ Q
  | 0, a, p, N, c, k, μ, hg, hp0, hfr, hn, hfn, hI, hc0, hc, hk, h19, hE, hr => by
    have := hI.2.2.2.2.1
    omega
  | g + 1, a, p, N, c, k, μ, hg, hp0, hfr, hn, hfn, hI, hc0, hc, hk, h19, hE, hr => by
    have go : ∀ (o : Int32) (mk9 : Term → Term → Term), (∀ (nd : Nat → Int32) (x y : Term) (z : Nat), isE nd 8400 c0 (mk9 x y) z ↔ c0 ≤ z ∧ nf nd 8400 z 0 = o ∧ ∃ i j, i < z ∧ j < z ∧ nf nd 8400 z 1 = nI i ∧ nf nd 8400 z 2 = nI j ∧ isE nd 8400 c0 x i ∧ isE nd 8400 c0 y j) → ¬ lxt T p = 0 → ps_add (lxt T p) = some mk9 → B_X6_sum_43 G ρ (d + 5) o μ Q := fun o mk9 hmk h0 hop => by
      unfold ps_loop at hr
      rw [hop] at hr
      refine B_X6_sum_43_f (S_next (d := d + 1) hI h0 fun μ1 f1 i1 => ?_)
      have hgt := lxe_gt h0
      have e18 : mI μ1 18 = ns := (f1 18 (by decide)).1.trans hn
      refine hs (lxe T p) N c μ1 _ i1 (by omega) e18 fun v μ2 hP => ?_
      obtain ⟨hf2, hP⟩ := hP
      have hfr2 : fr [2, 3, 4, 5, 6, 7, 10, 11, 12, 15, 16, 17, 18, 19] μ0 μ2 := (hfr.trans (f1.more (by decide))).trans hf2
      generalize hw : un (lxe T p) N = w at hP hr
      match w, hP with
      | (.inl (kd, q), N'), hP =>
        obtain ⟨hv, hkd, hF⟩ := hP
        subst hv
        refine ⟨fun c1 => absurd rfl c1, fun _ => hQ 0 μ2 ⟨hfr2, ?_⟩⟩
        have hr2 : (((.inl (kd, q) : (Int32 × Nat) ⊕ (Term × Nat)), N') : ps_R Term) = res := hr
        rw [← hr2]
        exact ⟨rfl, hkd, hF.1, (hfn.trans (f1.fn (by decide) c0) (Nat.le_refl _)).trans hF.2 hc0⟩
      | (.inr (b, p'), N'), hP =>
        obtain ⟨hv, hpp, h18', hfn2, c', j, i2, hcc, hcp, hj, h19', hE2⟩ := hP
        subst hv
        have hr2 : ps_loop T ps_add un g (mk9 a b) p' N' = res := hr
        have hp1000 := i2.2.2.2.2.1
        refine ⟨fun _ => S_node i2 (by omega) fun μ3 g1 g2 g3 n0 n1 n2 n3 n4 μ4 e4 => ?_, fun c1 => absurd c1 (by decide)⟩
        have hf4 : fr [15, 16, 19] μ2 μ4 := by rw [e4]; exact (g1.more (by decide)).sI (by decide)
        have e15 : mA μ4 15 = mA μ3 15 := by rw [e4]; rfl
        have hfn1 : fn c μ μ1 := f1.fn (by decide) c
        have hfn3 : fn c' μ2 μ4 := fun q hq => by rw [e15]; exact g2 q hq
        have hfnA : fn c μ μ4 := (hfn1.trans hfn2 (Nat.le_refl _)).trans hfn3 hcc
        refine S_sum_l hs hcp0 h18 hQ g (mk9 a b) p' N' (c' + 1) c' μ4 (by omega) (by omega) (hfr2.trans (hf4.more (by decide))) ?_ (hfn.trans hfnA hc0) ?_ (by omega) (by omega) (by omega) ?_ ?_ hr2
        · rw [show mI μ4 18 = mI μ2 18 from (hf4 18 (by decide)).1, h18', e18]
        · rw [e4]
          exact g3.fr ((fr.refl (ks := [19])).sI (by decide)) (by decide)
        · rw [e4, mI_s]
        · rw [hmk, e15]
          refine ⟨by omega, n0, k, j, by omega, hj, by rw [n1, h19], by rw [n2, h19'], ?_, ?_⟩
          · have := hfnA.isE hk hE
            rw [e15] at this
            exact this
          · have := hfn3.isE hj (hE2.lo hc0)
            rw [e15] at this
            exact this
    refine B_X6_sum_9_f (S_isSign hI ?_)
    by_cases h1 : lxt T p = 200 + 43
    · rw [if_pos h1]
      refine ⟨fun _ => S_isSign hI ?_, fun c1 => absurd c1 (by decide)⟩
      rw [if_pos h1]
      refine ⟨fun c1 => absurd c1 (by decide), fun _ => go 10 Term.add (fun _ _ _ _ => Iff.rfl) (by rw [h1]; decide) ?_⟩
      rw [h1]; rfl
    · rw [if_neg h1]
      refine ⟨fun c1 => absurd rfl c1, fun _ => S_isSign hI ?_⟩
      by_cases h2 : lxt T p = 200 + 45
      · rw [if_pos h2]
        refine ⟨fun c1 => absurd c1 (by decide), fun _ => S_isSign hI ?_⟩
        rw [if_neg h1]
        refine ⟨fun _ => go 11 Term.sub (fun _ _ _ _ => Iff.rfl) (by rw [h2]; decide) ?_, fun c1 => absurd rfl c1⟩
        rw [h2]; rfl
      · rw [if_neg h2]
        refine ⟨fun _ => hQ 1 μ ⟨hfr, ?_⟩, fun c1 => absurd rfl c1⟩
        unfold ps_loop at hr
        have hop : ps_add (lxt T p) = none := by
          unfold ps_add
          rw [if_neg (show ¬ lxt T p = 243 from h1), if_neg (show ¬ lxt T p = 245 from h2)]
        rw [hop] at hr
        have hr2 : (((.inr (a, p) : (Int32 × Nat) ⊕ (Term × Nat)), N) : ps_R Term) = res := hr
        rw [← hr2]
        exact ⟨rfl, hp0, by rw [hn, h18], hfn, c, k, hI, hc0, hc, hk, h19, hE⟩
theorem S_sum {un : Nat → ps_N → ps_R Term} (hs : SubM (W_X6_product G ρ (d + 4)) T ns (ps_prod T un)) : SubM (W_X6_sum G ρ (d + 5)) T ns (ps_sum T un) := fun p N c μ Q hI hc h18 hQ => by
  refine W_X6_sum_f (hs p N c μ _ hI hc h18 fun v μ1 hP => ?_)
  obtain ⟨hf1, hP⟩ := hP
  unfold ps_sum at hQ
  generalize hw : ps_prod T un p N = w at hP hQ
  match w, hP with
  | (.inl (kd, q), N'), hP =>
    obtain ⟨hv, hkd, hF⟩ := hP
    subst hv
    exact ⟨fun c1 => absurd rfl c1, fun _ => hQ 0 μ1 ⟨hf1, rfl, hkd, hF⟩⟩
  | (.inr (a, p'), N'), hP =>
    obtain ⟨hv, hpp, h18', hfn, c', k, i1, hcc, hcp, hk, h19, hE⟩ := hP
    subst hv
    exact ⟨fun _ => S_sum_l hs hc h18 hQ 1001 a p' N' c' k μ1 (by omega) hpp hf1 (h18'.trans h18) hfn i1 hcc hcp hk h19 hE rfl, fun c1 => absurd c1 (by decide)⟩
end
