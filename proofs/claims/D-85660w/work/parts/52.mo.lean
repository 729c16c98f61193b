set_option maxRecDepth 100000
section
variable {G : am_G} {ρ : mm_F} {d : Nat} {T : Nat → Int32} {p c : Nat} {N : ps_N} {μ : mm_S}
/-- fields that reading changes but those of the nodes -/
theorem PI.fr {ks : List Nat} {μ' : mm_S} (h : PI T p N c μ) (g : fr ks μ μ') (hk : ∀ k ∈ [0, 1, 2, 3, 4, 5, 6, 7, 8, 10, 11, 16], k ∉ ks) : PI T p N c μ' := by
  obtain ⟨a1, a2, a3, a4, a5, a6, a7, a8, a9, a10, a11⟩ := h
  have hh : ∀ k, k ∈ [0, 1, 2, 3, 4, 5, 6, 7, 8, 10, 11, 16] → μ'.1 k = μ.1 k ∧ μ'.2.1 k = μ.2.1 k ∧ μ'.2.2.1 k = μ.2.2.1 k ∧ μ'.2.2.2 k = μ.2.2.2 k := fun k hm => g k (hk k hm)
  refine ⟨(g.txt (hk 0 (by decide)) (hk 1 (by decide))).trans a1, g.tok (hk 0 (by decide)) (hk 1 (by decide)) a2, g.wok0 (hk 8 (by decide)) a3, ?_, a5, ?_, ?_, a8, ?_, ?_, a11⟩
  · obtain ⟨b1, b2, b3, b4, b5⟩ := a4
    exact ⟨(hh 2 (by decide)).1.trans b1, (hh 3 (by decide)).1.trans b2, (hh 4 (by decide)).1.trans b3, fun q => (hh 5 (by decide)).1.trans (b4 q), fun q => (hh 10 (by decide)).2.1.trans (b5 q)⟩
  · exact (hh 11 (by decide)).1.trans a6
  · exact (hh 7 (by decide)).1.trans a7
  · rw [(hh 6 (by decide)).2.2.2]; exact a9
  · exact (hh 16 (by decide)).1.trans a10
theorem S_named44 {k : Nat} {x : Int32} {Q : Int32 → mm_S → Prop} (h : PI T p N c μ) (h2 : lxt T p = 2) (hx : x = nI k) (hk : k ≤ N.1) (hy : ∀ μ' N', k < 40 → (k < N.1 → N' = N) → (k = N.1 → N' = (N.1 + 1, vp_updL N.2 N.1 (lxn T p))) → fr [2, 3, 4, 5, 6, 7, 10, 17] μ μ' → mI μ' 17 = nI k → PI T (lxe T p) N' c μ' → Q 1 μ') (hn : ∀ μ', k = 40 → fr [11, 12] μ μ' → PF 3 (lxa T p) N μ' → Q 0 μ') : B_X6_named_44 G ρ (d + 4) x μ Q := by
  have h8 : N.1 ≤ 40 := h.2.2.2.2.2.2.2.1
  have h7 : mI μ 7 = nI N.1 := h.2.2.2.2.2.2.1
  have h6 : μ.2.2.2 6 = N.2 := h.2.2.2.2.2.2.2.2.1
  have hnm : mJ μ 10 = lxn T p := h.2.2.2.1.2.2.2.2 h2
  have h0 : ¬ lxt T p = 0 := by rw [h2]; decide
  subst hx
  refine B_X6_named_44_f ⟨fun c1 => ⟨fun c2 μ1 e1 => ?_, fun c2 => ⟨?_, fun μ3 e3 μ4 e4 μ5 e5 => ?_⟩⟩, fun c1 => S_bad (d := d + 2) h fun μ' g1 g2 => ⟨rfl, hn μ' ((nI_eq (by omega) (by decide)).mp c1) g1 g2⟩⟩
  · have hk40 : ¬ k = 40 := fun e => c1 (by rw [e]; rfl)
    have hkN : ¬ k = N.1 := fun e => c2 (by rw [h7, e])
    have g : fr [17] μ μ1 := by rw [e1]; exact fr.refl.sI (by decide)
    refine S_next (h.fr g (by decide)) h0 fun μ' g1 g2 => hy μ' N (by omega) (fun _ => rfl) (fun e => absurd e hkN) ((g.more (by decide)).trans (g1.more (by decide))) ?_ g2
    rw [show mI μ' 17 = mI μ1 17 from (g1 17 (by decide)).1, e1, mI_s]
  · have hk40 : ¬ k = 40 := fun e => c1 (by rw [e]; rfl)
    exact vp_in_nI (by omega) (by decide)
  · have hk40 : ¬ k = 40 := fun e => c1 (by rw [e]; rfl)
    have hkN : k = N.1 := (nI_eq (by omega) (by omega)).mp (c2.trans h7)
    rw [nI_clamp (by omega)] at e3
    have g3 : fr [6, 7, 17] μ μ3 := by rw [e3]; exact fr.refl.sB (by decide)
    have g4 : fr [6, 7, 17] μ μ4 := by rw [e4]; exact g3.sI (by decide)
    have g5 : fr [6, 7, 17] μ μ5 := by rw [e5]; exact g4.sI (by decide)
    have hPI : PI T p (N.1 + 1, vp_updL N.2 N.1 (lxn T p)) c μ5 := by
      obtain ⟨a1, a2, a3, a4, a5, a6, a7, a8, a9, a10, a11⟩ := h
      refine ⟨(g5.txt (by decide) (by decide)).trans a1, g5.tok (by decide) (by decide) a2, g5.wok0 (by decide) a3, ?_, a5, ?_, ?_, by show N.1 + 1 ≤ 40; omega, ?_, ?_, a11⟩
      · obtain ⟨b1, b2, b3, b4, b5⟩ := a4
        exact ⟨(g5 2 (by decide)).1.trans b1, (g5 3 (by decide)).1.trans b2, (g5 4 (by decide)).1.trans b3, fun q => (g5 5 (by decide)).1.trans (b4 q), fun q => (g5 10 (by decide)).2.1.trans (b5 q)⟩
      · exact (g5 11 (by decide)).1.trans a6
      · rw [e5, mI_o (by decide), e4, mI_s, e3]
        show mI μ 7 + 1 = _
        rw [h7]; exact nI_1 _
      · rw [e5, e4, e3]
        show (if (6 : Nat) = 6 then vp_updL (μ.2.2.2 6) k (mJ μ 10) else μ.2.2.2 6) = _
        rw [if_pos rfl, h6, hnm, hkN]
      · exact (g5 16 (by decide)).1.trans a10
    refine S_next hPI h0 fun μ' f1 f2 => hy μ' _ (by omega) (fun e => absurd hkN (by omega)) (fun _ => rfl) ((g5.more (by decide)).trans (f1.more (by decide))) ?_ f2
    rw [show mI μ' 17 = mI μ5 17 from (f1 17 (by decide)).1, e5, mI_s]
theorem ps_fn_le {N : ps_N} {c : Int64} : ∀ {f i : Nat}, ps_fn N c f i ≤ i + f
  | 0, i => Nat.le_refl i
  | f + 1, i => by
    unfold ps_fn
    by_cases h : N.2 i = c
    · rw [if_pos h]; omega
    · rw [if_neg h]
      have := ps_fn_le (N := N) (c := c) (f := f) (i := i + 1)
      omega
theorem S_named16 {Q : Int32 → mm_S → Prop} (h : PI T p N c μ) (h2 : lxt T p = 2) : ∀ (f i : Nat) {x : Int32}, x = nI i → i + f = N.1 → (B_X6_named_44 G ρ (d + 4) (nI (ps_fn N (lxn T p) f i)) μ Q) → B_X6_named_16 G ρ (d + 4) x μ Q
  | 0, i, x, hx, hf, hq => B_X6_named_16_f (by
      have h7 : mI μ 7 = nI N.1 := h.2.2.2.2.2.2.1
      have h8 : N.1 ≤ 40 := h.2.2.2.2.2.2.2.1
      subst hx
      rw [h7]
      exact ⟨fun _ => hq, fun c1 => absurd (nI_le (by omega) (by omega)) c1⟩)
  | f + 1, i, x, hx, hf, hq => B_X6_named_16_f (by
      have h7 : mI μ 7 = nI N.1 := h.2.2.2.2.2.2.1
      have h8 : N.1 ≤ 40 := h.2.2.2.2.2.2.2.1
      have h6 : μ.2.2.2 6 = N.2 := h.2.2.2.2.2.2.2.2.1
      have hnm : mJ μ 10 = lxn T p := h.2.2.2.1.2.2.2.2 h2
      subst hx
      rw [h7]
      have e : mB μ 6 i = N.2 i := congrFun h6 i
      refine ⟨fun c1 => absurd c1 (nI_ge (by omega) (by omega)), fun _ => ⟨vp_in_nI (by omega) (by decide), fun c1 => ?_, fun c1 => ?_⟩⟩
      · rw [nI_clamp (by omega), hnm, e, lg_cmp0] at c1
        unfold ps_fn at hq
        rw [if_pos c1] at hq
        exact hq
      · rw [nI_clamp (by omega), hnm, e, lg_cmp0] at c1
        unfold ps_fn at hq
        rw [if_neg c1] at hq
        exact S_named16 h h2 f (i + 1) (nI_1 i) (by omega) hq)
/-- a name is read -/
theorem S_named {Q : Int32 → mm_S → Prop} (h : PI T p N c μ) (hy : ∀ μ' k p' N', ps_name T p N = ps_ok k p' N' → k < 40 → k < N'.1 → fr [2, 3, 4, 5, 6, 7, 10, 17] μ μ' → mI μ' 17 = nI k → PI T p' N' c μ' → p < p' → Q 1 μ') (hn : ∀ μ' k q N', ps_name T p N = ps_f k q N' → ¬ k = 0 → fr [11, 12] μ μ' → PF k q N' μ' → Q 0 μ') : W_X6_named G ρ (d + 4) μ Q := by
  have e3 : mI μ 3 = lxt T p := h.2.2.2.1.2.1
  have h8 : N.1 ≤ 40 := h.2.2.2.2.2.2.2.1
  refine W_X6_named_f ?_
  rw [e3]
  refine ⟨fun c1 => S_named16 h c1 N.1 0 rfl (by omega) ?_, fun c1 => S_bad h fun μ' g1 g2 => ⟨rfl, hn μ' 1 (lxa T p) N (by unfold ps_name; rw [if_neg c1]) (by decide) g1 g2⟩⟩
  have hle := ps_fn_le (N := N) (c := lxn T p) (f := N.1) (i := 0)
  have hgt : p < lxe T p := lxe_gt (by rw [c1]; decide)
  refine S_named44 h c1 rfl (by omega) (fun μ' N' k1 k2 k3 g1 g2 g3 => ?_) (fun μ' k1 g1 g2 => ?_)
  · by_cases hk : ps_fn N (lxn T p) N.1 0 < N.1
    · rw [k2 hk] at g3
      exact hy μ' _ _ N (by unfold ps_name; rw [if_pos c1]; dsimp only; rw [if_pos hk]) k1 hk g1 g2 g3 hgt
    · have hk2 : ps_fn N (lxn T p) N.1 0 = N.1 := by omega
      rw [k3 hk2] at g3
      rw [hk2] at g2 k1
      exact hy μ' _ _ _ (by unfold ps_name; rw [if_pos c1]; dsimp only; rw [if_neg hk, if_neg (by omega)]) k1 (by show N.1 < N.1 + 1; omega) g1 g2 g3 hgt
  · refine hn μ' 3 (lxa T p) N ?_ (by decide) g1 g2
    unfold ps_name
    rw [if_pos c1]
    dsimp only
    rw [if_neg (by omega), if_pos (by omega)]
end
