set_option maxRecDepth 100000
/-! ===== the model: patch(), word() ===== -/
section
variable {nd nd' : Nat → Int32} {B B' c : Nat}
theorem isMn.shift (h : ∀ q, q < 5 * c → nd' (5 * B' + q) = nd (5 * B + q)) {m : Mem} {k : Nat} (hk : k < c) (hM : isMn nd B 0 m k) : isMn nd' B' 0 m k := by
  obtain ⟨a1, a2, a3, a4⟩ := hM
  refine ⟨(nf_shift h hk (by decide)).trans a1, fun e => ?_, fun e => ?_, fun e => ?_⟩
  · obtain ⟨b1, b2⟩ := a2 e
    refine ⟨(nf_shift h hk (by decide)).trans b1, ?_⟩
    rw [nf_shift h hk (by decide)]
    exact isB.shift h _ k _ (by omega) b2
  · obtain ⟨b1, b2⟩ := a3 e
    exact ⟨(nf_shift h hk (by decide)).trans b1, (nf_shift h hk (by decide)).trans b2⟩
  · obtain ⟨b1, b2⟩ := a4 e
    exact ⟨(nf_shift h hk (by decide)).trans b1, (nf_shift h hk (by decide)).trans b2⟩
theorem isEd.shift (h : ∀ q, q < 5 * c → nd' (5 * B' + q) = nd (5 * B + q)) {e : Edt} {k : Nat} (hk : k < c) (hE : isEd nd B 0 e k) : isEd nd' B' 0 e k := by
  match e, hE with
  | .inl m, hE => exact isMn.shift h hk hE
  | .inr (.inl n), hE => exact ⟨(nf_shift h hk (by decide)).trans hE.1, (nf_shift h hk (by decide)).trans hE.2⟩
  | .inr (.inr (.inl (a, b))), hE => exact ⟨(nf_shift h hk (by decide)).trans hE.1, (nf_shift h hk (by decide)).trans hE.2.1, (nf_shift h hk (by decide)).trans hE.2.2⟩
  | .inr (.inr (.inr (n, t))), hE =>
    obtain ⟨b1, b2, i, b3, b4, b5⟩ := hE
    exact ⟨(nf_shift h hk (by decide)).trans b1, (nf_shift h hk (by decide)).trans b2, i, b3, (nf_shift h hk (by decide)).trans b4, isE.shift h (by omega) b5⟩
theorem isLk.shift {α : Type} {P P' : α → Nat → Prop} (h : ∀ q, q < 5 * c → nd' (5 * B' + q) = nd (5 * B + q)) (hP : ∀ a k, k < c → P a k → P' a k) : ∀ {l : List α} {m : Nat} {x : Int32}, m ≤ c → isLk nd B 0 P l m x → isLk nd' B' 0 P' l m x
  | [], m, x, _, h9 => h9
  | a :: l, m, x, hm, ⟨k, h1, h2, h3, h4, h5⟩ => by
    refine ⟨k, h1, h2, h3, hP a k (by omega) h4, ?_⟩
    rw [nf_shift h (by omega) (by decide)]
    exact h5.shift h hP hm
theorem isCh.shift (h : ∀ q, q < 5 * c → nd' (5 * B' + q) = nd (5 * B + q)) {x : Chg} {k : Nat} (hk : k < c) (hC : isCh nd B 0 x k) : isCh nd' B' 0 x k := by
  match x, hC with
  | .inl (n, ab, ms), hC =>
    obtain ⟨b1, b2, b3, b4⟩ := hC
    refine ⟨(nf_shift h hk (by decide)).trans b1, (nf_shift h hk (by decide)).trans b2, (nf_shift h hk (by decide)).trans b3, ?_⟩
    rw [nf_shift h hk (by decide)]
    exact isLk.shift h (fun a k hk => isMn.shift h hk) (by omega) b4
  | .inr (.inl (n, es)), hC =>
    obtain ⟨b1, b2, b4⟩ := hC
    refine ⟨(nf_shift h hk (by decide)).trans b1, (nf_shift h hk (by decide)).trans b2, ?_⟩
    rw [nf_shift h hk (by decide)]
    exact isLk.shift h (fun a k hk => isEd.shift h hk) (by omega) b4
  | .inr (.inr (.inl n)), hC => exact ⟨(nf_shift h hk (by decide)).trans hC.1, (nf_shift h hk (by decide)).trans hC.2⟩
  | .inr (.inr (.inr (.inl (n, ab)))), hC => exact ⟨(nf_shift h hk (by decide)).trans hC.1, (nf_shift h hk (by decide)).trans hC.2.1, (nf_shift h hk (by decide)).trans hC.2.2⟩
  | .inr (.inr (.inr (.inr (n, t)))), hC =>
    obtain ⟨b1, b2, i, b3, b4, b5⟩ := hC
    exact ⟨(nf_shift h hk (by decide)).trans b1, (nf_shift h hk (by decide)).trans b2, i, b3, (nf_shift h hk (by decide)).trans b4, isE.shift h (by omega) b5⟩
end
/-- the text t holds these changes, from the node x on -/
def isPt (μ : mm_S) (t : Nat) (cs : List Chg) (x : Int32) : Prop := ∃ m y, m ≤ 1001 ∧ isLk (mA μ 15) (1200 * t) 0 (isCh (mA μ 15) (1200 * t) 0) cs m y ∧ x = gI t y
theorem ps_patch_eq {T : Nat → Int32} {g p : Nat} {N : ps_N} : ps_patch T (g + 1) p N = ps_b (ps_change T p N) fun c p' N' => ps_b (if lxt T p' = 0 then ps_ok [] p' N' else ps_patch T g p' N') fun l p2 N2 => ps_ok (c :: l) p2 N2 := by
  rw [ps_patch]
  congr 1
  funext c p' N'
  by_cases h : lxt T p' = 0
  · rw [if_pos h, if_pos h]; rfl
  · rw [if_neg h, if_neg h]
section
variable {G : am_G} {ρ : mm_F} {d : Nat} {T : Nat → Int32} {ks : List Nat} {p0 c0 p c : Nat} {N : ps_N} {μ0 μ : mm_S}
/-- changes behind the first: the last one so far is tl -/
theorem S_patch_l (hk : ksP ks) (h23 : 23 ∈ ks) (h24 : 24 ∈ ks) (hd : 48 ≤ d) {x2 : Int32} {Q : Int32 → mm_S → Prop} : ∀ (g p : Nat) (N : ps_N) (c tl : Nat) (x3 : Int32) (μ : mm_S), CX ks T μ0 p0 c0 p N c μ → 1001 ≤ p + g → x3 = nI tl → c0 ≤ tl → tl < c → nf (mA μ 15) 8400 tl 4 = -1 →
    (∀ b p' N', (if lxt T p = 0 then ps_ok [] p N else ps_patch T g p N) = ps_ok b p' N' → ∀ c' μ', CX ks T μ0 p0 c0 p' N' c' μ' → c ≤ c' → (∀ q, q < 5 * (8400 + c) → 5 * (8400 + c0) ≤ q → ¬ q = 5 * (8400 + tl) + 4 → mA μ' 15 q = mA μ 15 q) → isLk (mA μ' 15) 8400 c0 (isCh (mA μ' 15) 8400 c0) b c' (nf (mA μ' 15) 8400 tl 4) → B_X6_patch_79 G ρ (d + 19) 1 x2 μ' Q) →
    (∀ k q N', (if lxt T p = 0 then ps_ok [] p N else ps_patch T g p N) = ps_f k q N' → ¬ k = 0 → ∀ μ', ff ks c0 μ0 μ' → PF k q N' μ' → B_X6_patch_79 G ρ (d + 19) 0 x2 μ' Q) → B_X6_patch_39 G ρ (d + 19) 1 x2 x3 μ Q
  | 0, p, N, c, tl, x3, μ, H, hg, hx3, htl0, htl, hnf, hy, hn => by
    have := H.p_le
    omega
  | g + 1, p, N, c, tl, x3, μ, H, hg, hx3, htl0, htl, hnf, hy, hn => by
    have h1000 := H.p_le
    have hcc0 : c0 ≤ c := H.2.2.2.1
    have hcx : c ≤ 1000 := by
      obtain ⟨-, -, -, h0, h1, h2, h3⟩ := H
      omega
    refine B_X6_patch_39_f ⟨fun c9 => absurd c9 (by decide), fun _ => ?_⟩
    rw [H.tk]
    refine ⟨fun c0' => ?_, fun n0 => ?_⟩
    · rw [if_pos c0'] at hy
      exact hy [] p N rfl c μ H (Nat.le_refl _) (fun _ _ _ _ => rfl) hnf
    · rw [if_neg n0, ps_patch_eq] at hy hn
      refine S_change hk h23 h24 hd μ p c p N c μ _ H.at0 (fun t p1 N1 h1 hp1 c1 k μ5 H5 hck hkc e22 hT hk4 => y1 ?_) fun k q N' h1 h0 μ5 f5 hF => z1 (B_X6_patch_39_f ⟨fun _ => hn k q N' (by rw [h1]; rfl) h0 μ5 (H.fft f5) hF, fun c9 => absurd rfl c9⟩)
      rw [h1] at hy hn
      have g5 : fn c μ μ5 := H5.2.2.1.1
      have hcc : c ≤ c1 := H5.2.2.2.1
      have H5' := H.from_ H5
      refine S_link hx3 (by omega) ?_
      have e22' : ∀ v, mI (mm_sA μ5 15 (5 * (8400 + tl) + 4) v) 22 = mI μ5 22 := fun _ => rfl
      rw [e22']
      have f7 : fr [15] μ5 (mm_sA μ5 15 (5 * (8400 + tl) + 4) (mI μ5 22)) := fr.refl.sA (by decide)
      have g7 : ∀ q, ¬ q = 5 * (8400 + tl) + 4 → mA (mm_sA μ5 15 (5 * (8400 + tl) + 4) (mI μ5 22)) 15 q = mA μ5 15 q := fun q hq => mA_i hq
      have H7 : CX ks T μ0 p0 c0 p1 N1 c1 (mm_sA μ5 15 (5 * (8400 + tl) + 4) (mI μ5 22)) := by
        obtain ⟨b1, b2, b3, b4, b5, b6, b7⟩ := H5'
        exact ⟨b1.fr f7 (by decide), b2.trans (f7.more fun k h => hk k ((by decide : ∀ k ∈ [15], k ∈ pks) k h)), ⟨fun q hq => (g7 q (by omega)).trans (b3.1 q hq), b3.2.trans (f7.w1 (by decide))⟩, b4, b5, b6, b7⟩
      have htk : ¬ 5 * (8400 + k) + 4 = 5 * (8400 + tl) + 4 := by omega
      refine S_patch_l hk h23 h24 hd g p1 N1 c1 k _ _ H7 (by omega) e22 (by omega) hkc ?_ (fun b p' N' h2 c' μ' H' hcc2 heq hB => ?_) fun k q N' h2 h0 μ' f' hF => hn k q N' (by show ps_b (if lxt T p1 = 0 then ps_ok [] p1 N1 else ps_patch T g p1 N1) _ = _; rw [h2]; rfl) h0 μ' f' hF
      · show mA (mm_sA μ5 15 (5 * (8400 + tl) + 4) (mI μ5 22)) 15 (5 * (8400 + k) + 4) = -1
        rw [g7 _ htk]
        exact hk4
      · have hkeep : ∀ q, q < 5 * (8400 + c1) → 5 * (8400 + c0) ≤ q → ¬ q = 5 * (8400 + k) + 4 → ¬ q = 5 * (8400 + tl) + 4 → mA μ' 15 q = mA μ5 15 q := fun q h1 h0 h2 h3 => (heq q h1 h0 h2).trans (g7 q h3)
        refine hy (t :: b) p' N' (by show ps_b (if lxt T p1 = 0 then ps_ok [] p1 N1 else ps_patch T g p1 N1) _ = _; rw [h2]; rfl) c' μ' H' (by omega) (fun q hq hq0 hqt => ?_) ?_
        · rw [hkeep q (by omega) hq0 (by omega) hqt]
          exact g5 q hq
        · have e : nf (mA μ' 15) 8400 tl 4 = nI k := by
            show mA μ' 15 (5 * (8400 + tl) + 4) = nI k
            rw [heq _ (by omega) (by omega) (by omega), mA_s, e22]
          rw [e]
          refine ⟨k, rfl, by omega, by omega, ?_, hB⟩
          exact isCh_low (mA μ' 15) c c0 k t hcc0 (isCh_kep (mA μ5 15) (mA μ' 15) c k t hck (fun q q1 q2 => hkeep q (by omega) (by omega) (by omega) (by omega)) hT)
/-- fields that reading a patch changes -/
abbrev pkt : List Nat := [1, 2, 3, 4, 5, 6, 7, 8, 9, 10, 11, 12, 13, 14, 15, 16, 17, 18, 19, 20, 21, 22, 23, 24, 25, 31, 32]
/-- what is asked of a patch that is read -/
def PaY (μ : mm_S) (k : Nat) (res : ps_R (List Chg)) (Q : Int32 → mm_S → Prop) : Prop := ∀ cs p' N', res = ps_ok cs p' N' → ∀ μ', fr pkt μ μ' → w1 μ μ' → (∀ q, q < 42000 → ¬ (6000 * (k + 1) ≤ q ∧ q < 6000 * (k + 1) + 6000) → mA μ' 15 q = mA μ 15 q) → isPt μ' (k + 1) cs (mA μ' 31 k) → ¬ mA μ' 31 k = -1 → mA μ' 32 k = 0 → (∀ j, ¬ j = k → mA μ' 31 j = mA μ 31 j ∧ mA μ' 32 j = mA μ 32 j) → mI μ' 25 = nI (k + 1) → kno μ' → nmW N' μ' → mI μ' 1 = 0 → mI μ' 13 = 0 → mI μ' 14 = -1 → Q (nI k) μ'
theorem gI_ne {t k : Nat} (ht : t < 7) (hk : k < 1001) : gI t (nI k) = nI (1200 * t + k) := by
  unfold gI
  rw [if_neg (nI_m1 (by omega)), nI_add]
theorem S_patch {k : Nat} {Q : Int32 → mm_S → Prop} (hkn : kno μ) (ht : tok μ) (hN : nmW N μ) (h25 : mI μ 25 = nI k) (hk6 : k < 6) (hd : 48 ≤ d) (hY : PaY μ k (ps_patch (tx μ) 1001 0 N) Q) (hF : TxN μ (ps_patch (tx μ) 1001 0 N) Q) : W_X6_patch G ρ (d + 19) μ Q := by
  have hksp : ksP ksp := by decide
  refine W_X6_patch_f ⟨fun _ => S_begin (d := d + 14) hkn ht hN fun μ1 f1 k1 i1 _ _ => ?_, fun c6 => ?_⟩
  · have H1 : CX ksp (tx μ) μ1 0 0 0 N 0 μ1 := CX.start i1 (Nat.le_refl _)
    have g01 : fz 0 μ μ1 := f1.fz (by decide) (by decide) 0
    have fr1 : fr pkr μ μ1 := f1.more (by decide)
    have bad79 : ∀ x2 k' q N', ps_patch (tx μ) 1001 0 N = ps_f k' q N' → ¬ k' = 0 → ∀ μ', ff ksp 0 μ1 μ' → PF k' q N' μ' → B_X6_patch_79 G ρ (d + 19) 0 x2 μ' Q := fun x2 k' q N' h1 h0 μ' hf hP => by
      refine B_X6_patch_79_f (S_tells fun μ3 f3 e1 e13 e14 => ⟨fun c9 => absurd rfl c9, fun _ => ?_⟩)
      rw [hP.1] at e13
      rw [hP.1, if_neg h0] at e14
      refine hF k' q N' h1 h0 μ3 ((fr1.trans (hf.1.more (by decide))).trans (f3.more (by decide))) ((g01.trans hf.2 (Nat.le_refl _)).trans (f3.fz (by decide) (by decide) 0) (Nat.le_refl _)) ?_ (hP.nmW.fr f3 (by decide) (by decide)) e1 e13 (e14.trans hP.2.1)
      exact Or.inr (f3.wok0 (by decide) (hf.1.wok0 (by decide) i1.2.2.1))
    have good79 : ∀ cs p' N', ps_patch (tx μ) 1001 0 N = ps_ok cs p' N' → ∀ c' hd9 μ', CX ksp (tx μ) μ1 0 0 p' N' c' μ' → hd9 < c' → isLk (mA μ' 15) 8400 0 (isCh (mA μ' 15) 8400 0) cs c' (nI hd9) → B_X6_patch_79 G ρ (d + 19) 1 (nI hd9) μ' Q := fun cs p' N' h1 c' hd9 μ' H' hhd hL => by
      have i' := H'.1
      have hc' : c' ≤ 1001 := i'.2.2.2.2.2.2.2.2.2.2
      have h11 : mI μ' 11 = 0 := i'.2.2.2.2.2.1
      refine B_X6_patch_79_f (S_tells fun μ3 f3 e1 e13 e14 => ⟨fun _ => ?_, fun c9 => absurd c9 (by decide)⟩)
      rw [h11] at e13
      rw [h11, if_pos rfl] at e14
      have e16 : mI μ3 16 = nI c' := (f3.eI (by decide)).trans i'.2.2.2.2.2.2.2.2.2.1
      have e25 : mI μ3 25 = nI k := (((f3.eI (by decide)).trans (H'.2.1.eI (by decide))).trans (f1.eI (by decide))).trans h25
      rw [e25]
      refine S_keep (txt := k + 1) (nI_1 k) (by omega) hc' e16 fun μ4 k4 => ?_
      have e25' : mI μ4 25 = nI k := (k4.1.eI (by decide)).trans e25
      rw [e25', nI_clamp (by omega)]
      refine ⟨vp_in_nI (by omega) (by decide), fun μ5 e5 => ?_⟩
      have e25b : mI μ5 25 = nI k := by rw [e5]; exact e25'
      rw [e25b, nI_clamp (by omega)]
      refine ⟨vp_in_nI (by omega) (by decide), fun μ6 e6 μ7 e7 => ?_⟩
      have e25c : mI μ6 25 = nI k := by rw [e6]; exact e25b
      have e25d : mI μ7 25 = nI (k + 1) := by rw [e7, mI_s, e25c]; exact nI_1 k
      rw [e25d, show (1 : Int32) = nI 1 from rfl, pk_sub (by omega), Nat.add_sub_cancel]
      have f47 : fr [25, 31, 32] μ4 μ7 := by rw [e7, e6, e5]; exact ((fr.refl.sA (by decide)).sA (by decide)).sI (by decide)
      have f37 : fr [15, 25, 31, 32] μ3 μ7 := (k4.1.more (by decide)).trans (f47.more (by decide))
      have fA : fr pkt μ μ7 := (((fr1.more (by decide)).trans (H'.2.1.more (by decide))).trans (f3.more (by decide))).trans (f37.more (by decide))
      have e31 : mA μ7 31 k = gI (k + 1) (nI hd9) := by
        rw [e7]
        show mA μ6 31 k = _
        rw [e6, mA_o (by decide), e5, mA_s, gI_ne (by omega) (by omega), nI_1]
        show nI 1200 * nI (k + 1) + nI hd9 = _
        rw [pk_mul, nI_add]
      refine hY cs p' N' h1 μ7 fA ((g01.2.trans H'.2.2.1.2).trans ((f3.w1 (by decide)).trans (f37.w1 (by decide)))) (fun q hq hqt => ?_) ?_ ?_ ?_ (fun j hj => ?_) e25d ?_ ?_ ?_ ?_ ?_
      · rw [f47.eA (by decide), k4.2.2 q (by omega), f3.eA (by decide), H'.2.2.1.1 q (by omega)]
        exact g01.1 q (by omega)
      · refine ⟨c', nI hd9, hc', ?_, e31⟩
        have hsh : ∀ q, q < 5 * c' → mA μ7 15 (5 * (1200 * (k + 1)) + q) = mA μ' 15 (5 * 8400 + q) := fun q hq => by
          have := k4.2.1 q hq
          rw [show 6000 * (k + 1) + q = 5 * (1200 * (k + 1)) + q by omega, f3.eA (by decide)] at this
          rw [f47.eA (by decide)]
          exact this
        exact isLk.shift hsh (fun a k hk => isCh.shift hsh hk) (Nat.le_refl _) hL
      · rw [e31, gI_ne (by omega) (by omega)]
        exact nI_m1 (by omega)
      · rw [e7]
        show mA μ6 32 k = 0
        rw [e6, mA_s]
      · have e32 : mA μ4 31 = mA μ 31 ∧ mA μ4 32 = mA μ 32 := by
          have f04 : fr [1, 2, 3, 4, 5, 6, 7, 8, 9, 10, 11, 12, 13, 14, 15, 16, 17, 18, 19, 20, 21, 22, 23, 24] μ μ4 := ((fr1.trans (H'.2.1.more (by decide))).trans (f3.more (by decide))).trans (k4.1.more (by decide))
          exact ⟨f04.eA (by decide), f04.eA (by decide)⟩
        rw [e7]
        show mA μ6 31 j = _ ∧ mA μ6 32 j = _
        rw [e6, mA_o (by decide), mA_i hj, e5, mA_i hj, mA_o (by decide), e32.1, e32.2]
        exact ⟨rfl, rfl⟩
      · exact Or.inr (f37.wok0 (by decide) (f3.wok0 (by decide) i'.2.2.1))
      · exact (i'.nmW.fr f3 (by decide) (by decide)).fr f37 (by decide) (by decide)
      · rw [f37.eI (by decide)]; exact e1
      · rw [f37.eI (by decide)]; exact e13
      · rw [f37.eI (by decide)]; exact e14
    rw [ps_patch_eq] at bad79 good79
    refine S_change (d := d) (ks := ksp) hksp (by decide) (by decide) hd μ1 0 0 0 N 0 μ1 _ H1 (fun a p1 N1 h1 hp1 c1 kx μ2 H2 _ hkc e22 hT hk4 => ?_) fun k' q N' h1 h0 μ2 hf hP => B_X6_patch_39_f ⟨fun _ => bad79 _ k' q N' (by rw [h1]; rfl) h0 μ2 hf hP, fun c9 => absurd rfl c9⟩
    rw [h1] at bad79 good79
    rw [e22]
    refine S_patch_l (d := d) (ks := ksp) hksp (by decide) (by decide) hd 1000 p1 N1 c1 kx _ μ2 H2 (by omega) rfl (Nat.zero_le _) hkc hk4 (fun b p' N' h2 c' μ' H' hcc2 heq hB => ?_) fun k' q N' h2 h0 μ' hf hP => bad79 _ k' q N' (by show ps_b (if lxt (tx μ) p1 = 0 then ps_ok [] p1 N1 else ps_patch (tx μ) 1000 p1 N1) _ = _; rw [h2]; rfl) h0 μ' hf hP
    refine good79 (a :: b) p' N' (by show ps_b (if lxt (tx μ) p1 = 0 then ps_ok [] p1 N1 else ps_patch (tx μ) 1000 p1 N1) _ = _; rw [h2]; rfl) c' kx μ' H' (by omega) ⟨kx, rfl, Nat.zero_le _, by omega, ?_, hB⟩
    exact isCh_kep (mA μ2 15) (mA μ' 15) 0 kx a (Nat.zero_le _) (fun q q1 q2 => heq q (by omega) (by omega) (by omega)) hT
  · rw [h25] at c6
    have := (nI_eq (show k < 2 ^ 31 by omega) (show 6 < 2 ^ 31 by decide)).mp c6
    omega
/-- a patch too many -/
theorem S_patch6 {Q : Int32 → mm_S → Prop} (h25 : mI μ 25 = nI 6) (hQ : ∀ μ', fr [1, 11, 13, 14] μ μ' → mI μ' 1 = 0 → mI μ' 13 = 0 → mI μ' 14 = -1 → Q (-1) μ') : W_X6_patch G ρ (d + 1) μ Q := by
  refine W_X6_patch_f ⟨fun n6 => absurd h25 n6, fun _ μ4 e4 => S_tells fun μ5 f5 e1 e13 e14 => ?_⟩
  have f4 : fr [11] μ μ4 := by rw [e4]; exact fr.refl.sI (by decide)
  have e11 : mI μ4 11 = 0 := by rw [e4, mI_s]
  rw [e11] at e13
  rw [e11, if_pos rfl] at e14
  exact hQ μ5 ((f4.more (by decide)).trans (f5.more (by decide))) e1 e13 e14
/-- a word: its number, or none -/
def wordR (T : Nat → Int32) (N : ps_N) : Int32 × ps_N := match ps_name T 0 N with
  | (.inl _, N') => (-1, N')
  | (.inr (k, p'), N') => (if lxt T p' = 0 then nI k else -1, N')
theorem S_wordc {Q : Int32 → mm_S → Prop} (hkn : kno μ) (ht : tok μ) (hN : nmW N μ) (hQ : ∀ μ', fr pkr μ μ' → fz 0 μ μ' → kno μ' → nmW (wordR (tx μ) N).2 μ' → mI μ' 1 = 0 → mI μ' 13 = mI μ 13 → mI μ' 14 = mI μ 14 → Q (wordR (tx μ) N).1 μ') : W_X6_word_2 G ρ (d + 5) μ Q := by
  have hksp : ksP ksp := by decide
  refine W_X6_word_2_f (S_begin (d := d) hkn ht hN fun μ1 f1 k1 i1 _ _ => ?_)
  have H1 : CX ksp (tx μ) μ1 0 0 0 N 0 μ1 := CX.start i1 (Nat.le_refl _)
  have g01 : fz 0 μ μ1 := f1.fz (by decide) (by decide) 0
  have fr1 : fr pkr μ μ1 := f1.more (by decide)
  have fin : ∀ (s0 : Int32) (μ2 : mm_S), ff ksp 0 μ1 μ2 → nmW (wordR (tx μ) N).2 μ2 → (s0 = 0 → (wordR (tx μ) N).1 = -1) → (¬ s0 = 0 → (wordR (tx μ) N).1 = mI μ2 17) → B_X6_word_2_41 G ρ (d + 5) (mI μ 13) (mI μ 14) s0 μ2 Q := fun s0 μ2 hf hn h0 h1 => by
    refine B_X6_word_2_41_f fun μ3 e3 μ4 e4 μ5 e5 μ6 e6 => ?_
    have f6 : fr [1, 11, 13, 14] μ2 μ6 := by rw [e6, e5, e4, e3]; exact (((fr.refl.sI (by decide)).sI (by decide)).sI (by decide)).sI (by decide)
    have hq : Q (wordR (tx μ) N).1 μ6 := hQ μ6 ((fr1.trans (hf.1.more (by decide))).trans (f6.more (by decide))) ((g01.trans hf.2 (Nat.le_refl _)).trans (f6.fz (by decide) (by decide) 0) (Nat.le_refl _)) (Or.inr (f6.wok0 (by decide) (hf.1.wok0 (by decide) i1.2.2.1))) (hn.fr f6 (by decide) (by decide)) (by rw [e6, mI_o (by decide), e5, mI_o (by decide), e4, mI_s]) (by rw [e6, mI_o (by decide), e5, mI_s]) (by rw [e6, mI_s])
    refine ⟨fun c0 => ?_, fun n0 => ?_⟩
    · rw [h0 c0] at hq
      exact hq
    · rw [h1 n0] at hq
      rw [f6.eI (by decide)]
      exact hq
  rw [H1.tk]
  refine ⟨fun n2 => ?_, fun c2 => ?_⟩
  · have e : wordR (tx μ) N = (-1, N) := by
      unfold wordR ps_name
      rw [if_neg n2]
      rfl
    refine fin 0 μ1 ⟨fr.refl, fz.refl⟩ (by rw [e]; exact i1.nmW) (fun _ => by rw [e]) fun h => absurd rfl h
  · refine H1.named hksp (fun k p' N' h1 hk40 hkN hpp μ2 f2 e17 H2 => ?_) fun k q N' h1 h0 μ2 hf hP => ?_
    · refine y2 ?_
      rw [H2.tk]
      refine ⟨fun n0 => ?_, fun c0 => ?_⟩
      · have e : wordR (tx μ) N = (-1, N') := by
          unfold wordR
          rw [h1]
          show (if lxt (tx μ) p' = 0 then nI k else -1, N') = _
          rw [if_neg n0]
        exact fin 0 μ2 ⟨H2.2.1, H2.2.2.1⟩ (by rw [e]; exact H2.1.nmW) (fun _ => by rw [e]) fun h => absurd rfl h
      · have e : wordR (tx μ) N = (nI k, N') := by
          unfold wordR
          rw [h1]
          show (if lxt (tx μ) p' = 0 then nI k else -1, N') = _
          rw [if_pos c0]
        exact fin 1 μ2 ⟨H2.2.1, H2.2.2.1⟩ (by rw [e]; exact H2.1.nmW) (fun h => absurd h (by decide)) fun _ => by rw [e, e17]
    · refine z2 ?_
      have e : wordR (tx μ) N = (-1, N') := by
        unfold wordR
        rw [h1]
        rfl
      exact fin 0 μ2 hf (by rw [e]; exact hP.nmW) (fun _ => by rw [e]) fun h => absurd rfl h
end
