set_option maxRecDepth 100000
/-! ===== the model: pond() ===== -/
theorem S_true_of {A : Prop} (h : A) : A := h
/-- fields that the reading of a text may change -/
abbrev pkr : List Nat := [1, 2, 3, 4, 5, 6, 7, 8, 9, 10, 11, 12, 13, 14, 15, 16, 17, 18, 19, 20, 21, 22, 23, 24]
/-- of a pond -/
abbrev pkq : List Nat := [1, 2, 3, 4, 5, 6, 7, 8, 9, 10, 11, 12, 13, 14, 15, 16, 17, 18, 19, 20, 21, 22, 23, 24, 25, 27, 28, 29, 30, 33, 67, 68]
abbrev ksp : List Nat := [2, 3, 4, 5, 6, 7, 10, 11, 12, 15, 16, 17, 18, 19, 20, 21, 22, 23, 24]
theorem gI_0 {x : Int32} : gI 0 x = x := by
  unfold gI
  by_cases h : x = -1
  · rw [if_pos h, h]
  · rw [if_neg h, show nI (1200 * 0) = 0 from rfl]
    exact Int32.zero_add x
section
variable {G : am_G} {ρ : mm_F} {d : Nat} {μ : mm_S} {N : ps_N}
theorem PF.nmW {k : Int32} {q : Nat} {N' : ps_N} {μ' : mm_S} (h : PF k q N' μ') : nmW N' μ' := ⟨h.2.2.1, h.2.2.2.1, h.2.2.2.2⟩
theorem PI.nmW {T : Nat → Int32} {p c : Nat} {N' : ps_N} {μ' : mm_S} (h : PI T p N' c μ') : nmW N' μ' := ⟨h.2.2.2.2.2.2.1, h.2.2.2.2.2.2.2.1, h.2.2.2.2.2.2.2.2.1⟩
theorem nmW.fr {ks : List Nat} {μ' : mm_S} (h : nmW N μ) (g : fr ks μ μ') (h7 : 7 ∉ ks) (h6 : 6 ∉ ks) : nmW N μ' := ⟨(g.eI h7).trans h.1, h.2.1, (by rw [(g 6 h6).2.2.2]; exact h.2.2)⟩
theorem kno.fr {ks : List Nat} {μ' : mm_S} (h : kno μ) (g : fr ks μ μ') (h9 : 9 ∉ ks) (h8 : 8 ∉ ks) : kno μ' := h.elim (fun h => Or.inl ((g.eI h9).trans h)) fun h => Or.inr (g.wok0 h8 h)
/-- what is asked of a text that is refused -/
def TxN {α : Type} (μ : mm_S) (res : ps_R α) (Q : Int32 → mm_S → Prop) : Prop := ∀ k q N', res = ps_f k q N' → ¬ k = 0 → ∀ μ', fr pkr μ μ' → fz 0 μ μ' → kno μ' → nmW N' μ' → mI μ' 1 = 0 → mI μ' 13 = k → mI μ' 14 = nI q → Q (-1) μ'
/-- long acts are forgotten -/
theorem S_pond90 {Q : Int32 → mm_S → Prop} {μ0 : mm_S} (hQ : ∀ μ', fr [67, 68] μ0 μ' → (∀ l, l < 10 → mA μ' 67 l = 0 ∧ mA μ' 68 l = 0) → W_X6_many G ρ d 0 μ' (fun v2 μ1 => Q v2 μ1)) : ∀ (f j : Nat) {x2 : Int32} {μ : mm_S}, j + f = 10 → x2 = nI j → fr [67, 68] μ0 μ → (∀ l, l < j → mA μ 67 l = 0 ∧ mA μ 68 l = 0) → B_X6_pond_90 G ρ (d + 1) x2 μ Q
  | 0, j, x2, μ, hj, hx, hf, hz => B_X6_pond_90_f (by
      have hj : j = 10 := by omega
      subst hj
      subst hx
      exact ⟨fun _ => hQ μ hf hz, fun c9 => absurd (nI_le (Nat.le_refl 10) (by omega)) c9⟩)
  | f + 1, j, x2, μ, hj, hx, hf, hz => B_X6_pond_90_f (by
      subst hx
      refine ⟨fun c9 => absurd c9 (nI_ge (a := j) (b := 10) (by omega) (by omega)), fun _ => ⟨vp_in_nI (by omega) (by decide), fun μ3 e3 => ⟨vp_in_nI (by omega) (by decide), fun μ4 e4 => ?_⟩⟩⟩
      rw [nI_clamp (by omega)] at e3 e4
      refine S_pond90 hQ f (j + 1) (by omega) (nI_1 j) (by rw [e4, e3]; exact (hf.sA (by decide)).sA (by decide)) fun l hl => ?_
      rw [e4, mA_o (by decide), e3]
      by_cases h9 : l = j
      · subst h9
        refine ⟨mA_s, ?_⟩
        exact mA_s
      · obtain ⟨a, b⟩ := hz l (by omega)
        refine ⟨(mA_i h9).trans a, ?_⟩
        rw [mA_i h9, mA_o (by decide)]
        exact b)
/-- a body within the texts 0..np -/
def bGn (np : Nat) (μ : mm_S) (t : Term) (x : Int32) : Prop := ∃ txt m y, (txt ≤ np ∧ txt < 7) ∧ m ≤ 1001 ∧ isB (mA μ 15) (1200 * txt) 0 t m y ∧ x = gI txt y
theorem bGn.bG {np : Nat} {μ : mm_S} {t : Term} {x : Int32} (h : bGn np μ t x) : bG μ t x := by
  obtain ⟨txt, m, y, b1, b2, b3, b4⟩ := h
  exact ⟨txt, m, y, b1.2, b2, b3, b4⟩
theorem bGn.mono {np nq : Nat} {μ : mm_S} {t : Term} {x : Int32} (h : bGn np μ t x) (hn : np ≤ nq) : bGn nq μ t x := by
  obtain ⟨txt, m, y, b1, b2, b3, b4⟩ := h
  exact ⟨txt, m, y, ⟨Nat.le_trans b1.1 hn, b1.2⟩, b2, b3, b4⟩
/-- what is asked of a pond that is read -/
def PoY (μ : mm_S) (res : ps_R (List Kd)) (Q : Int32 → mm_S → Prop) : Prop := ∀ L p' N', res = ps_ok L p' N' → ∀ μ', fr pkq μ μ' → isW (bGn 0 μ') μ' 0 L → decL L → kno μ' → nmW N' μ' → mI μ' 1 = 0 → mI μ' 13 = 0 → mI μ' 14 = -1 → mI μ' 25 = 0 → mI μ' 27 = 0 → mI μ' 28 = -1 → mI μ' 29 = -1 → mI μ' 30 = -1 → mI μ' 33 = 0 → (∀ l, l < 10 → mA μ' 67 l = 0 ∧ mA μ' 68 l = 0) → Q (nI L.length) μ'
theorem S_pond {Q : Int32 → mm_S → Prop} (hk : kno μ) (ht : tok μ) (hN : nmW N μ) (hd : 48 ≤ d) (hY : PoY μ (ps_pond (tx μ) 1001 [] 0 N) Q) (hF : TxN μ (ps_pond (tx μ) 1001 [] 0 N) Q) : W_X6_pond G ρ (d + 18) μ Q := by
  have hksp : ksP ksp := by decide
  refine W_X6_pond_f (S_begin (d := d + 13) hk ht hN fun μ1 f1 k1 i1 _ _ => ⟨vp_in_nI (n := 769) (by decide) (by decide), fun μ2 e2 => ?_⟩)
  have e769 : (769 : Int32).toNatClampNeg = 769 * 1 := by decide
  rw [e769] at e2
  have f2 : fr [23] μ1 μ2 := by rw [e2]; exact fr.refl.sA (by decide)
  have i2 : PI (tx μ) 0 N 0 μ2 := i1.fr f2 (by decide)
  have H2 : CX ksp (tx μ) μ2 0 0 0 N 0 μ2 := CX.start i2 (Nat.le_refl _)
  have W2 : isW (bT 0 μ2) μ2 1 [] := ⟨by rw [e2]; exact wm_set, by decide, fun k kd h => by cases h⟩
  have g02 : fz 0 μ μ2 := ⟨(f1.fn (by decide) 0).trans (f2.fn (by decide) 0) (Nat.le_refl _), (f1.w1 (by decide)).trans (by rw [e2]; exact fun q hq => mA_i (by omega))⟩
  have fr2 : fr pkr μ μ2 := (f1.more (by decide)).trans (f2.more (by decide))
  -- refused
  have bad37 : ∀ k q N', ps_pond (tx μ) 1001 [] 0 N = ps_f k q N' → ¬ k = 0 → ∀ μ', ff ksp 0 μ2 μ' → PF k q N' μ' → B_X6_pond_37 G ρ (d + 18) 0 μ' Q := fun k q N' h1 h0 μ' hf hP => by
    refine B_X6_pond_37_f (S_tells fun μ3 f3 e1 e13 e14 => ⟨fun c9 => absurd rfl c9, fun _ => ?_⟩)
    rw [hP.1] at e13
    rw [hP.1, if_neg h0] at e14
    refine hF k q N' h1 h0 μ3 ((fr2.trans (hf.1.more (by decide))).trans (f3.more (by decide))) ((g02.trans hf.2 (Nat.le_refl _)).trans (f3.fz (by decide) (by decide) 0) (Nat.le_refl _)) ?_ (hP.nmW.fr f3 (by decide) (by decide)) e1 e13 (e14.trans hP.2.1)
    exact Or.inr (f3.wok0 (by decide) (hf.1.wok0 (by decide) i2.2.2.1))
  -- read
  have good37 : ∀ L p' N', ps_pond (tx μ) 1001 [] 0 N = ps_ok L p' N' → ∀ c' μ', CX ksp (tx μ) μ2 0 0 p' N' c' μ' → isW (bT c' μ') μ' 1 L → decL L → B_X6_pond_37 G ρ (d + 18) 1 μ' Q := fun L p' N' h1 c' μ' H' W' D' => by
    have i' := H'.1
    have hc' : c' ≤ 1001 := i'.2.2.2.2.2.2.2.2.2.2
    have h11 : mI μ' 11 = 0 := i'.2.2.2.2.2.1
    refine B_X6_pond_37_f (S_tells fun μ3 f3 e1 e13 e14 => ⟨fun _ => ?_, fun c9 => absurd c9 (by decide)⟩)
    rw [h11] at e13
    rw [h11, if_pos rfl] at e14
    have e16 : mI μ3 16 = nI c' := (f3.eI (by decide)).trans i'.2.2.2.2.2.2.2.2.2.1
    refine S_keep (txt := 0) rfl (by omega) hc' e16 fun μ4 k4 => S_copy (a := 1) (b := 0) rfl rfl (by omega) (by omega) (by omega) fun μ5 c5 => ?_
    intro μ6 e6 μ7 e7 μ8 e8 μ9 e9 μ10 e10 μ11 e11
    have W4 : isW (bGn 0 μ4) μ4 1 L := W'.ext (fun f _ => by rw [k4.1.eA (by decide), f3.eA (by decide)]) fun t x hb => by
      refine ⟨0, c', x, ⟨Nat.le_refl _, by omega⟩, hc', ?_, gI_0.symm⟩
      refine isB.shift (B := 8400) (c := c') (fun q hq => ?_) t c' x (Nat.le_refl _) hb
      have := k4.2.1 q (by omega)
      rw [show 6000 * 0 + q = 5 * (1200 * 0) + q by omega] at this
      rw [this, f3.eA (by decide)]
    have W5 : isW (bGn 0 μ5) μ5 0 L := c5.toW W4 fun t x hb => by
      obtain ⟨txt, m, y, b1, b2, b3, b4⟩ := hb
      exact ⟨txt, m, y, b1, b2, by rw [c5.1.eA (by decide)]; exact b3, b4⟩
    have f11 : fr [25, 27, 28, 29, 30, 33] μ5 μ11 := by rw [e11, e10, e9, e8, e7, e6]; exact (((((fr.refl.sI (by decide)).sI (by decide)).sI (by decide)).sI (by decide)).sI (by decide)).sI (by decide)
    refine S_pond90 (d := d + 17) (μ0 := μ11) (fun μ12 f12 z12 => ?_) 10 0 (by omega) rfl fr.refl fun l hl => absurd hl (by omega)
    have f5_12 : fr [25, 27, 28, 29, 30, 33, 67, 68] μ5 μ12 := (f11.more (by decide)).trans (f12.more (by decide))
    have W12 : isW (bGn 0 μ12) μ12 0 L := W5.ext (fun f _ => by rw [f5_12.eA (by decide)]) fun t x hb => by
      obtain ⟨txt, m, y, b1, b2, b3, b4⟩ := hb
      exact ⟨txt, m, y, b1, b2, by rw [f5_12.eA (by decide)]; exact b3, b4⟩
    refine S_many (w := 0) rfl (by omega) ?_
    rw [W12.1]
    have f3_5 : fr [15, 23] μ3 μ5 := (k4.1.more (by decide)).trans (c5.1.more (by decide))
    have fA : fr pkq μ μ12 := ((((fr2.more (by decide)).trans (H'.2.1.more (by decide))).trans (f3.more (by decide))).trans (f3_5.more (by decide))).trans (f5_12.more (by decide))
    refine hY L p' N' h1 μ12 fA W12 D' ?_ ?_ ?_ ?_ ?_ ?_ ?_ ?_ ?_ ?_ ?_ z12
    · exact Or.inr (f5_12.wok0 (by decide) (f3_5.wok0 (by decide) (f3.wok0 (by decide) i'.2.2.1)))
    · exact ((i'.nmW.fr f3 (by decide) (by decide)).fr f3_5 (by decide) (by decide)).fr f5_12 (by decide) (by decide)
    · rw [f5_12.eI (by decide), f3_5.eI (by decide)]; exact e1
    · rw [f5_12.eI (by decide), f3_5.eI (by decide)]; exact e13
    · rw [f5_12.eI (by decide), f3_5.eI (by decide)]; exact e14
    · rw [f12.eI (by decide), e11, mI_o (by decide), e10, mI_o (by decide), e9, mI_o (by decide), e8, mI_o (by decide), e7, mI_s]
    · rw [f12.eI (by decide), e11, mI_s]
    · rw [f12.eI (by decide), e11, mI_o (by decide), e10, mI_o (by decide), e9, mI_o (by decide), e8, mI_s]
    · rw [f12.eI (by decide), e11, mI_o (by decide), e10, mI_o (by decide), e9, mI_s]
    · rw [f12.eI (by decide), e11, mI_o (by decide), e10, mI_s]
    · rw [f12.eI (by decide), e11, mI_o (by decide), e10, mI_o (by decide), e9, mI_o (by decide), e8, mI_o (by decide), e7, mI_o (by decide), e6, mI_s]
  rw [ps_pond] at bad37 good37
  refine S_kind (d := d + 1) (ks := ksp) hksp (by decide) (by decide) (by omega) H2 W2 (fun k kd h => by cases h) (fun L1 p1 N1 h1 hp1 c1 μ3 H3 W3 D3 => ?_) fun k q N' h1 h0 μ3 hf hP => ?_
  · rw [h1] at bad37 good37
    exact S_pond_l (d := d + 1) (ks := ksp) hksp (by decide) (by decide) (by omega) 1000 L1 p1 N1 c1 μ3 H3 hp1 (by omega) W3 D3 good37 bad37
  · exact B_X6_pond_18_f ⟨fun _ => bad37 k q N' (by rw [h1]; rfl) h0 μ3 hf hP, fun c9 => absurd rfl c9⟩
end
