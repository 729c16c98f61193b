set_option maxRecDepth 100000
/-! ===== reading on: from (p0, c0, mu0) to the token at p, c nodes made (CX) ===== -/
theorem y1 {A B : Prop} (h : A) : (¬ (1 : Int32) = 0 → A) ∧ ((1 : Int32) = 0 → B) := ⟨fun _ => h, fun c => absurd c (by decide)⟩
theorem y2 {A B : Prop} (h : A) : ((1 : Int32) = 0 → B) ∧ (¬ (1 : Int32) = 0 → A) := ⟨fun c => absurd c (by decide), fun _ => h⟩
theorem z1 {A B : Prop} (h : B) : (¬ (0 : Int32) = 0 → A) ∧ ((0 : Int32) = 0 → B) := ⟨fun c => absurd rfl c, fun _ => h⟩
theorem z2 {A B : Prop} (h : B) : ((0 : Int32) = 0 → B) ∧ (¬ (0 : Int32) = 0 → A) := ⟨fun _ => h, fun c => absurd rfl c⟩
/-- of the worlds, but the one that is made, all stays -/
def w1 (μ μ' : mm_S) : Prop := ∀ q, ¬ (769 ≤ q ∧ q < 1538) → mA μ' 23 q = mA μ 23 q
theorem w1.refl {μ : mm_S} : w1 μ μ := fun _ _ => rfl
theorem w1.trans {μ μ1 μ2 : mm_S} (h1 : w1 μ μ1) (h2 : w1 μ1 μ2) : w1 μ μ2 := fun q hq => (h2 q hq).trans (h1 q hq)
theorem fr.w1 {ks : List Nat} {μ μ' : mm_S} (h : fr ks μ μ') (hk : 23 ∉ ks) : w1 μ μ' := fun q _ => congrFun (h 23 hk).2.2.1 q
/-- nodes below c and other worlds stay -/
def fz (c : Nat) (μ μ' : mm_S) : Prop := fn c μ μ' ∧ w1 μ μ'
theorem fz.refl {c : Nat} {μ : mm_S} : fz c μ μ := ⟨fn.refl, w1.refl⟩
theorem fz.trans {c c' : Nat} {μ μ1 μ2 : mm_S} (h1 : fz c μ μ1) (h2 : fz c' μ1 μ2) (hc : c ≤ c') : fz c μ μ2 := ⟨h1.1.trans h2.1 hc, h1.2.trans h2.2⟩
theorem fr.fz {ks : List Nat} {μ μ' : mm_S} (h : fr ks μ μ') (hk : 15 ∉ ks) (h23 : 23 ∉ ks) (c : Nat) : fz c μ μ' := ⟨h.fn hk c, h.w1 h23⟩
def ff (ks : List Nat) (c : Nat) (μ μ' : mm_S) : Prop := fr ks μ μ' ∧ fz c μ μ'
def CX (ks : List Nat) (T : Nat → Int32) (μ0 : mm_S) (p0 c0 p : Nat) (N : ps_N) (c : Nat) (μ : mm_S) : Prop := PI T p N c μ ∧ fr ks μ0 μ ∧ fz c0 μ0 μ ∧ c0 ≤ c ∧ p0 ≤ p ∧ c + p0 ≤ p + c0 ∧ c0 ≤ p0
abbrev ksP (ks : List Nat) : Prop := ∀ k ∈ pks, k ∈ ks
/-- fields that a token at hand needs -/
abbrev pki : List Nat := [0, 1, 2, 3, 4, 5, 6, 7, 8, 10, 11, 16]
section
variable {G : am_G} {ρ : mm_F} {d : Nat} {T : Nat → Int32} {ks : List Nat} {p0 c0 p c : Nat} {N : ps_N} {μ0 μ : mm_S}
theorem CX.start (hI : PI T p N c μ) (hc : c ≤ p) : CX ks T μ p c p N c μ := ⟨hI, fr.refl, fz.refl, Nat.le_refl _, Nat.le_refl _, by omega, hc⟩
theorem CX.tk (H : CX ks T μ0 p0 c0 p N c μ) : mI μ 3 = lxt T p := H.1.2.2.2.1.2.1
theorem CX.at_ (H : CX ks T μ0 p0 c0 p N c μ) : mI μ 4 = nI (lxa T p) := H.1.2.2.2.1.2.2.1
theorem CX.num (H : CX ks T μ0 p0 c0 p N c μ) (h : lxt T p = 3) : mI μ 5 = lxv T p := H.1.2.2.2.1.2.2.2.1 h
theorem CX.p_le (H : CX ks T μ0 p0 c0 p N c μ) : p ≤ 1000 := H.1.2.2.2.2.1
theorem CX.N_le (H : CX ks T μ0 p0 c0 p N c μ) : N.1 ≤ 40 := H.1.2.2.2.2.2.2.2.1
theorem CX.fr_ (H : CX ks T μ0 p0 c0 p N c μ) {ls : List Nat} {μ' : mm_S} (h : fr ls μ μ') (hl : ∀ k ∈ ls, k ∈ ks) (h2 : ∀ k ∈ pki, k ∉ ls) (h3 : 15 ∉ ls) (hw : w1 μ μ') : CX ks T μ0 p0 c0 p N c μ' :=
  ⟨H.1.fr h h2, H.2.1.trans (h.more hl), H.2.2.1.trans ⟨h.fn h3 c0, hw⟩ (Nat.le_refl _), H.2.2.2⟩
theorem CX.setI (H : CX ks T μ0 p0 c0 p N c μ) {k : Nat} {x : Int32} {μ' : mm_S} (e : μ' = mm_sI μ k x) (hk : k ∈ ks) (h2 : k ∉ pki) (h3 : ¬ (k = 15 ∨ k = 23)) : CX ks T μ0 p0 c0 p N c μ' := by
  have g : fr [k] μ μ' := by rw [e]; exact fr.refl.sI (List.mem_singleton.mpr rfl)
  exact H.fr_ g (fun q hq => by rw [List.mem_singleton.mp hq]; exact hk) (fun q hq h9 => h2 (by rw [← List.mem_singleton.mp h9]; exact hq)) (fun h9 => h3 (Or.inl (List.mem_singleton.mp h9).symm)) (g.w1 fun h9 => h3 (Or.inr (List.mem_singleton.mp h9).symm))
theorem CX.next {Q : mm_S → Prop} (H : CX ks T μ0 p0 c0 p N c μ) (hk : ksP ks) (h0 : ¬ lxt T p = 0) (hQ : ∀ μ', fr [2, 3, 4, 5, 10] μ μ' → p < lxe T p → CX ks T μ0 p0 c0 (lxe T p) N c μ' → Q μ') : W_X6_look0 G ρ (d + 3) μ Q := by
  obtain ⟨hI, a1, a2, a3, a4, a5, a6⟩ := H
  have hg := lxe_gt h0
  exact S_next hI h0 fun μ' f1 i1 => hQ μ' f1 hg ⟨i1, a1.trans (f1.more fun k h => hk k ((by decide : ∀ k ∈ [2, 3, 4, 5, 10], k ∈ pks) k h)), a2.trans (f1.fz (by decide) (by decide) c0) (Nat.le_refl _), a3, by omega, by omega, a6⟩
theorem CX.bad {k : Int32} {Q : Int32 → mm_S → Prop} (H : CX ks T μ0 p0 c0 p N c μ) (hk : ksP ks) (hQ : ∀ μ', ff ks c0 μ0 μ' → PF k (lxa T p) N μ' → Q 0 μ') : W_X6_bad G ρ (d + 1) k μ Q :=
  S_bad H.1 fun μ' g1 g2 => hQ μ' ⟨H.2.1.trans (g1.more fun k h => hk k ((by decide : ∀ k ∈ [11, 12], k ∈ pks) k h)), H.2.2.1.trans (g1.fz (by decide) (by decide) c0) (Nat.le_refl _)⟩ g2
theorem CX.badAt {k x : Int32} {q : Nat} {Q : Int32 → mm_S → Prop} (H : CX ks T μ0 p0 c0 p N c μ) (hk : ksP ks) (hx : x = nI q) (hQ : ∀ μ', ff ks c0 μ0 μ' → PF k q N μ' → Q 0 μ') : W_X6_badAt G ρ d k x μ Q :=
  S_badAt H.1 hx fun μ' g1 g2 => hQ μ' ⟨H.2.1.trans (g1.more fun k h => hk k ((by decide : ∀ k ∈ [11, 12], k ∈ pks) k h)), H.2.2.1.trans (g1.fz (by decide) (by decide) c0) (Nat.le_refl _)⟩ g2
theorem CX.need {x : Int32} {Q : Int32 → mm_S → Prop} (H : CX ks T μ0 p0 c0 p N c μ) (hk : ksP ks) (hx : ¬ 200 + x = 0) (hy : lxt T p = 200 + x → ∀ μ', fr [2, 3, 4, 5, 10] μ μ' → p < lxe T p → CX ks T μ0 p0 c0 (lxe T p) N c μ' → Q 1 μ') (hn : ¬ lxt T p = 200 + x → ∀ μ', ff ks c0 μ0 μ' → PF 1 (lxa T p) N μ' → Q 0 μ') : W_X6_need G ρ (d + 4) x μ Q := by
  have H2 := H
  obtain ⟨hI, a1, a2, a3, a4, a5, a6⟩ := H2
  refine S_need hx hI (fun μ' h1 f1 i1 => ?_) fun μ' h1 g1 g2 => hn h1 μ' ⟨a1.trans (g1.more fun k h => hk k ((by decide : ∀ k ∈ [11, 12], k ∈ pks) k h)), a2.trans (g1.fz (by decide) (by decide) c0) (Nat.le_refl _)⟩ g2
  have hg : p < lxe T p := lxe_gt (by rw [h1]; exact hx)
  exact hy h1 μ' f1 hg ⟨i1, a1.trans (f1.more fun k h => hk k ((by decide : ∀ k ∈ [2, 3, 4, 5, 10], k ∈ pks) k h)), a2.trans (f1.fz (by decide) (by decide) c0) (Nat.le_refl _), a3, by omega, by omega, a6⟩
theorem CX.named {Q : Int32 → mm_S → Prop} (H : CX ks T μ0 p0 c0 p N c μ) (hk : ksP ks) (hy : ∀ k p' N', ps_name T p N = ps_ok k p' N' → k < 40 → k < N'.1 → p < p' → ∀ μ', fr [2, 3, 4, 5, 6, 7, 10, 17] μ μ' → mI μ' 17 = nI k → CX ks T μ0 p0 c0 p' N' c μ' → Q 1 μ') (hn : ∀ k q N', ps_name T p N = ps_f k q N' → ¬ k = 0 → ∀ μ', ff ks c0 μ0 μ' → PF k q N' μ' → Q 0 μ') : W_X6_named G ρ (d + 4) μ Q := by
  obtain ⟨hI, a1, a2, a3, a4, a5, a6⟩ := H
  refine S_named hI (fun μ' k p' N' hN h40 hkN f1 h17 i1 hpp => ?_) fun μ' k q N' hN h0 g1 g2 => hn k q N' hN h0 μ' ⟨a1.trans (g1.more fun k h => hk k ((by decide : ∀ k ∈ [11, 12], k ∈ pks) k h)), a2.trans (g1.fz (by decide) (by decide) c0) (Nat.le_refl _)⟩ g2
  exact hy k p' N' hN h40 hkN hpp μ' f1 h17 ⟨i1, a1.trans (f1.more fun k h => hk k ((by decide : ∀ k ∈ [2, 3, 4, 5, 6, 7, 10, 17], k ∈ pks) k h)), a2.trans (f1.fz (by decide) (by decide) c0) (Nat.le_refl _), a3, by omega, by omega, a6⟩
theorem CX.node {a1 a2 a3 a4 : Int32} {Q : Int32 → mm_S → Prop} (H : CX ks T μ0 p0 c0 p N c μ) (hk : ksP ks) (hc : c + p0 < p + c0) (hQ : ∀ μ', fr [15, 16] μ μ' → fn c μ μ' → nf (mA μ' 15) 8400 c 0 = a1 → nf (mA μ' 15) 8400 c 1 = a2 → nf (mA μ' 15) 8400 c 2 = a3 → nf (mA μ' 15) 8400 c 3 = a4 → nf (mA μ' 15) 8400 c 4 = -1 → CX ks T μ0 p0 c0 p N (c + 1) μ' → Q (nI c) μ') : W_X6_node G ρ d a1 a2 a3 a4 μ Q := by
  have h1000 := H.p_le
  obtain ⟨hI, b1, b2, b3, b4, b5, b6⟩ := H
  exact S_node hI (by omega) fun μ' g1 g2 g3 n0 n1 n2 n3 n4 => hQ μ' g1 g2 n0 n1 n2 n3 n4 ⟨g3, b1.trans (g1.more fun k h => hk k ((by decide : ∀ k ∈ [15, 16], k ∈ pks) k h)), b2.trans ⟨g2, g1.w1 (by decide)⟩ b3, by omega, b4, by omega, b6⟩
/-- an expression -/
theorem CX.sub {W : mm_S → (Int32 → mm_S → Prop) → Prop} {ns : Int32} {ps : Nat → ps_N → ps_R Term} {Q : Int32 → mm_S → Prop} (H : CX ks T μ0 p0 c0 p N c μ) (hk : ksP ks) (hs : SubM W T ns ps) (h18 : mI μ 18 = ns) (hy : ∀ t p' N', ps p N = ps_ok t p' N' → p < p' → ∀ c' k μ', fr [2, 3, 4, 5, 6, 7, 10, 11, 12, 15, 16, 17, 18, 19] μ μ' → fn c μ μ' → mI μ' 18 = ns → c ≤ c' → c' + p ≤ p' + c → k < c' → mI μ' 19 = nI k → isE (mA μ' 15) 8400 c t k → CX ks T μ0 p0 c0 p' N' c' μ' → Q 1 μ') (hn : ∀ k q N', ps p N = ps_f k q N' → ¬ k = 0 → ∀ μ', ff ks c0 μ0 μ' → PF k q N' μ' → Q 0 μ') : W μ Q := by
  have h1000 := H.p_le
  obtain ⟨hI, b1, b2, b3, b4, b5, b6⟩ := H
  refine hs p N c μ Q hI (by omega) h18 fun v μ' hP => ?_
  obtain ⟨f1, hP⟩ := hP
  have f2 : fr ks μ0 μ' := b1.trans (f1.more fun k h => hk k ((by decide : ∀ k ∈ [2, 3, 4, 5, 6, 7, 10, 11, 12, 15, 16, 17, 18, 19], k ∈ pks) k h))
  generalize hw : ps p N = w at hP hy hn
  match w, hP with
  | (.inl (kd, q), N'), hP =>
    obtain ⟨hv, h0, hF⟩ := hP
    subst hv
    exact hn kd q N' rfl h0 μ' ⟨f2, b2.trans ⟨hF.2, f1.w1 (by decide)⟩ b3⟩ hF.1
  | (.inr (t, p'), N'), hP =>
    obtain ⟨hv, hpp, e18, f3, c', k, i1, k1, k2, k3, k4, k5⟩ := hP
    subst hv
    exact hy t p' N' rfl hpp c' k μ' f1 f3 (e18.trans h18) k1 k2 k3 k4 k5 ⟨i1, f2, b2.trans ⟨f3, f1.w1 (by decide)⟩ b3, by omega, by omega, by omega, b6⟩
/-- a statement -/
theorem CX.stm {W : mm_S → (Int32 → mm_S → Prop) → Prop} {ns : Int32} {st : Nat → ps_N → Nat → ps_B} {s : Nat} {Q : Int32 → mm_S → Prop} (H : CX ks T μ0 p0 c0 p N c μ) (hk : ksP ks) (hs : SubS W T ns st) (h18 : mI μ 18 = ns) (h20 : mI μ 20 = nI s) (hs60 : s ≤ 60) (hy : ∀ t s' p' N', st p N s = ps_ok (t, s') p' N' → p < p' → ∀ c' k μ', fr pks μ μ' → fn c μ μ' → mI μ' 18 = ns → mI μ' 20 = nI s' → s' ≤ 60 → c ≤ c' → c' + p ≤ p' + c → c ≤ k → k < c' → mI μ' 22 = nI k → isT (mA μ' 15) 8400 c t k → nf (mA μ' 15) 8400 k 4 = -1 → CX ks T μ0 p0 c0 p' N' c' μ' → Q 1 μ') (hn : ∀ k q N', st p N s = ps_f k q N' → ¬ k = 0 → ∀ μ', ff ks c0 μ0 μ' → PF k q N' μ' → Q 0 μ') : W μ Q := by
  have h1000 := H.p_le
  obtain ⟨hI, b1, b2, b3, b4, b5, b6⟩ := H
  refine hs p N c s μ Q hI (by omega) h18 h20 hs60 fun v μ' hP => ?_
  obtain ⟨f1, hP⟩ := hP
  have f2 : fr ks μ0 μ' := b1.trans (f1.more hk)
  generalize hw : st p N s = w at hP hy hn
  match w, hP with
  | (.inl (kd, q), N'), hP =>
    obtain ⟨hv, h0, hF⟩ := hP
    subst hv
    exact hn kd q N' rfl h0 μ' ⟨f2, b2.trans ⟨hF.2, f1.w1 (by decide)⟩ b3⟩ hF.1
  | (.inr ((t, s'), p'), N'), hP =>
    obtain ⟨hv, hpp, e18, e20, hs', f3, c', k, i1, k1, k2, k3, k4, k5, k6, k7⟩ := hP
    subst hv
    exact hy t s' p' N' rfl hpp c' k μ' f1 f3 (e18.trans h18) e20 hs' k1 k2 k3 k4 k5 k6 k7 ⟨i1, f2, b2.trans ⟨f3, f1.w1 (by decide)⟩ b3, by omega, by omega, by omega, b6⟩
/-- a block -/
theorem CX.blk {W : mm_S → (Int32 → mm_S → Prop) → Prop} {ns : Int32} {st : Nat → ps_N → Nat → ps_B} {s : Nat} {Q : Int32 → mm_S → Prop} (H : CX ks T μ0 p0 c0 p N c μ) (hk : ksP ks) (hs : SubB W T ns st) (h18 : mI μ 18 = ns) (h20 : mI μ 20 = nI s) (hs60 : s ≤ 60) (hy : ∀ t s' p' N', st p N s = ps_ok (t, s') p' N' → p < p' → ∀ c' μ', fr pks μ μ' → fn c μ μ' → mI μ' 18 = ns → mI μ' 20 = nI s' → s' ≤ 60 → c ≤ c' → c' + p ≤ p' + c → isB (mA μ' 15) 8400 c t c' (mI μ' 21) → CX ks T μ0 p0 c0 p' N' c' μ' → Q 1 μ') (hn : ∀ k q N', st p N s = ps_f k q N' → ¬ k = 0 → ∀ μ', ff ks c0 μ0 μ' → PF k q N' μ' → Q 0 μ') : W μ Q := by
  have h1000 := H.p_le
  obtain ⟨hI, b1, b2, b3, b4, b5, b6⟩ := H
  refine hs p N c s μ Q hI (by omega) h18 h20 hs60 fun v μ' hP => ?_
  obtain ⟨f1, hP⟩ := hP
  have f2 : fr ks μ0 μ' := b1.trans (f1.more hk)
  generalize hw : st p N s = w at hP hy hn
  match w, hP with
  | (.inl (kd, q), N'), hP =>
    obtain ⟨hv, h0, hF⟩ := hP
    subst hv
    exact hn kd q N' rfl h0 μ' ⟨f2, b2.trans ⟨hF.2, f1.w1 (by decide)⟩ b3⟩ hF.1
  | (.inr ((t, s'), p'), N'), hP =>
    obtain ⟨hv, hpp, e18, e20, hs', f3, c', i1, k1, k2, k6⟩ := hP
    subst hv
    exact hy t s' p' N' rfl hpp c' μ' f1 f3 (e18.trans h18) e20 hs' k1 k2 k6 ⟨i1, f2, b2.trans ⟨f3, f1.w1 (by decide)⟩ b3, by omega, by omega, by omega, b6⟩
end
