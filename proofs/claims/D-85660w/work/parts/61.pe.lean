set_option maxRecDepth 100000
theorem isB.lo {nd : Nat → Int32} {B lo l2 : Nat} (hl2 : l2 ≤ lo) : ∀ (t : Term) (m : Nat) (x : Int32), isB nd B lo t m x → isB nd B l2 t m x
  | .thrown, m, x, hB => hB
  | .add (.elem (.index n) e) b, m, x, hB => by
    obtain ⟨k, e0, el, e1, e2, e3, e4, ⟨i, e5, e6, e7⟩, e8⟩ := hB
    exact ⟨k, e0, by omega, e1, e2, e3, e4, ⟨i, e5, e6, e7.lo hl2⟩, isB.lo hl2 b m _ e8⟩
  | .add (.length e) b, m, x, hB => by
    obtain ⟨k, e0, el, e1, e2, ⟨i, e5, e6, e7⟩, e8⟩ := hB
    exact ⟨k, e0, by omega, e1, e2, ⟨i, e5, e6, e7.lo hl2⟩, isB.lo hl2 b m _ e8⟩
  | .add (.sum e) b, m, x, hB => by
    obtain ⟨k, e0, el, e1, e2, ⟨i, e5, e6, e7⟩, e8⟩ := hB
    exact ⟨k, e0, by omega, e1, e2, ⟨i, e5, e6, e7.lo hl2⟩, isB.lo hl2 b m _ e8⟩
  | .add .null b, m, x, hB => by
    obtain ⟨k, e0, el, e1, e2, e8⟩ := hB
    exact ⟨k, e0, by omega, e1, e2, isB.lo hl2 b m _ e8⟩
  | .add (.arg a) b, m, x, hB => by
    obtain ⟨k, e0, el, e1, e2, e3, e4, e8⟩ := hB
    exact ⟨k, e0, by omega, e1, e2, e3, e4, isB.lo hl2 b m _ e8⟩
  | .add (.mul (.index l) (.index a)) b, m, x, hB => by
    obtain ⟨k, e0, el, e1, e2, e3, e4, e5, e6, e8⟩ := hB
    exact ⟨k, e0, by omega, e1, e2, e3, e4, e5, e6, isB.lo hl2 b m _ e8⟩
  | .add .result b, m, x, hB => by
    obtain ⟨k, e0, el, e1, e2, e8⟩ := hB
    exact ⟨k, e0, by omega, e1, e2, isB.lo hl2 b m _ e8⟩
  | .add (.sub e (.sub y n)) b, m, x, hB => by
    obtain ⟨k, e0, el, e1, e2, ⟨i, e5, e6, e7⟩, e9, e10, e8⟩ := hB
    exact ⟨k, e0, by omega, e1, e2, ⟨i, e5, e6, e7.lo hl2⟩, isB.lo hl2 y k _ e9, isB.lo hl2 n k _ e10, isB.lo hl2 b m _ e8⟩
theorem isT.lo {nd : Nat → Int32} {B lo l2 k : Nat} {s : Term} (hl2 : l2 ≤ lo) (hT : isT nd B lo s k) : isT nd B l2 s k := by
  unfold isT at hT ⊢
  split at hT
  · obtain ⟨a1, a2, a3, i, a4, a5, a6⟩ := hT
    exact ⟨a1, a2, a3, i, a4, a5, a6.lo hl2⟩
  · obtain ⟨a1, i, a4, a5, a6⟩ := hT
    exact ⟨a1, i, a4, a5, a6.lo hl2⟩
  · obtain ⟨a1, i, a4, a5, a6⟩ := hT
    exact ⟨a1, i, a4, a5, a6.lo hl2⟩
  · exact hT
  · exact hT
  · exact hT
  · exact hT
  · obtain ⟨a1, ⟨i, a4, a5, a6⟩, a7, a8⟩ := hT
    exact ⟨a1, ⟨i, a4, a5, a6.lo hl2⟩, isB.lo hl2 _ _ _ a7, isB.lo hl2 _ _ _ a8⟩
  · exact hT.elim
theorem fr.eI {ks : List Nat} {μ μ' : mm_S} (h : fr ks μ μ') {k : Nat} (hk : k ∉ ks) : mI μ' k = mI μ k := (h k hk).1
theorem fr.eA {ks : List Nat} {μ μ' : mm_S} (h : fr ks μ μ') {k : Nat} (hk : k ∉ ks) : mA μ' k = mA μ k := (h k hk).2.2.1
section
variable {G : am_G} {ρ : mm_F} {d : Nat} {T : Nat → Int32} {ks : List Nat} {p0 c0 p c : Nat} {N : ps_N} {μ0 μ : mm_S}
/-- the node of a statement, and a semicolon -/
theorem S_semi {o a1 a2 a3 : Int32} {t : Term} {s : Nat} {Q : Int32 → mm_S → Prop} (H : CX ks T μ0 p0 c0 p N c μ) (hk : ksP ks) (h22 : 22 ∈ ks) (hc : c + p0 < p + c0) (hT : ∀ nd : Nat → Int32, (∀ q, q < 5 * (8400 + c) → nd q = mA μ 15 q) → nf nd 8400 c 0 = o → nf nd 8400 c 1 = a1 → nf nd 8400 c 2 = a2 → nf nd 8400 c 3 = a3 → isT nd 8400 c0 t c) (hy : ∀ p', ps_semi T t s p N = ps_ok (t, s) p' N → p < p' → ∀ μ', fr [2, 3, 4, 5, 10, 15, 16, 22] μ μ' → fn c μ μ' → CX ks T μ0 p0 c0 p' N (c + 1) μ' → mI μ' 22 = nI c → isT (mA μ' 15) 8400 c0 t c → nf (mA μ' 15) 8400 c 4 = -1 → Q 1 μ') (hn : ps_semi T t s p N = ps_f 1 (lxa T p) N → ∀ μ', ff ks c0 μ0 μ' → PF 1 (lxa T p) N μ' → Q 0 μ') : W_X6_node G ρ (d + 4) o a1 a2 a3 μ (fun v μ1 => ∀ μ3 : mm_S, μ3 = mm_sI μ1 22 v → W_X6_need G ρ (d + 4) 59 μ3 (fun v5 μ4 => narrow .boolean (.int v5) = .int v5 ∧ Q v5 μ4)) := by
  refine H.node hk hc fun μ1 f1 g1 n0 n1 n2 n3 n4 H1 μ3 e3 => ?_
  have f3 : fr [22] μ1 μ3 := by rw [e3]; exact fr.refl.sI (by decide)
  have H3 := H1.setI e3 h22 (by decide) (by decide)
  refine H3.need hk (by decide) (fun h59 μ4 f4 hg H4 => ⟨rfl, ?_⟩) fun h59 μ4 f4 hF => ⟨rfl, hn ?_ μ4 f4 hF⟩
  · have e15 : mA μ4 15 = mA μ1 15 := (f4.eA (by decide)).trans (f3.eA (by decide))
    refine hy (lxe T p) ?_ hg μ4 (((f1.more (by decide)).trans (f3.more (by decide))).trans (f4.more (by decide))) (fun q hq => by rw [e15]; exact g1 q hq) H4 ?_ ?_ ?_
    · unfold ps_semi ps_need
      rw [if_pos h59]
      rfl
    · rw [f4.eI (by decide), e3, mI_s]
    · rw [e15]
      exact hT _ g1 n0 n1 n2 n3
    · rw [e15]; exact n4
  · unfold ps_semi ps_need
    rw [if_neg h59]
    rfl
/-- statements behind the first: the last one so far is tl -/
theorem S_block_l {x1 : Int32} {ns : Int32} {st : Nat → ps_N → Nat → ps_B} (hk : ksP ks) (hs : SubS (W_X6_statement G ρ (d + 4) x1) T ns st) {x2 : Int32} (hx2 : ¬ x2 = -1) {Q : Int32 → mm_S → Prop} : ∀ (g p : Nat) (N : ps_N) (s c tl : Nat) (x3 : Int32) (μ : mm_S), CX ks T μ0 p0 c0 p N c μ → 1001 ≤ p + g → mI μ 18 = ns → mI μ 20 = nI s → s ≤ 60 → x3 = nI tl → c0 ≤ tl → tl < c → nf (mA μ 15) 8400 tl 4 = -1 →
    (∀ b s' p' N', ps_stmts T st g p N s = ps_ok (b, s') p' N' → p < p' → ∀ c' μ', CX ks T μ0 p0 c0 p' N' c' μ' → mI μ' 18 = ns → mI μ' 20 = nI s' → s' ≤ 60 → c ≤ c' → (∀ q, q < 5 * (8400 + c) → ¬ q = 5 * (8400 + tl) + 4 → mA μ' 15 q = mA μ 15 q) → isB (mA μ' 15) 8400 c0 b c' (nf (mA μ' 15) 8400 tl 4) → mI μ' 21 = x2 → Q 1 μ') →
    (∀ k q N', ps_stmts T st g p N s = ps_f k q N' → ¬ k = 0 → ∀ μ', ff ks c0 μ0 μ' → PF k q N' μ' → Q 0 μ') → B_X6_block_15 G ρ (d + 5) x1 x2 x3 μ Q
  | 0, p, N, s, c, tl, x3, μ, H, hg, h18, h20, hs60, hx3, htl0, htl, hnf, hy, hn => by
    have := H.p_le
    omega
  | g + 1, p, N, s, c, tl, x3, μ, H, hg, h18, h20, hs60, hx3, htl0, htl, hnf, hy, hn => by
    have h1000 := H.p_le
    have hcx : c ≤ 1000 := by
      obtain ⟨-, -, -, -, h1, h2, h3⟩ := H
      omega
    refine B_X6_block_15_f (S_isSign H.1 ?_)
    by_cases h125 : lxt T p = 200 + 125
    · rw [if_pos h125]
      refine y1 (H.next hk (by rw [h125]; decide) fun μ3 f3 hg3 H3 μ4 e4 => ?_)
      have f4 : fr [21] μ3 μ4 := by rw [e4]; exact fr.refl.sI (by decide)
      have e15 : mA μ4 15 = mA μ 15 := (f4.eA (by decide)).trans (f3.eA (by decide))
      refine hy .thrown s (lxe T p) N ?_ hg3 c μ4 (H3.setI e4 (hk 21 (by decide)) (by decide) (by decide)) ?_ ?_ hs60 (Nat.le_refl c) (fun q _ _ => by rw [e15]) ?_ ?_
      · unfold ps_stmts
        rw [if_pos (show lxt T p = 325 from h125)]
      · rw [f4.eI (by decide), f3.eI (by decide)]; exact h18
      · rw [f4.eI (by decide), f3.eI (by decide)]; exact h20
      · rw [e15, hnf]; rfl
      · rw [e4, mI_s]
    · rw [if_neg h125]
      refine z1 ?_
      have hst : ps_stmts T st (g + 1) p N s = ps_b (st p N s) fun a p' N' => ps_b (ps_stmts T st g p' N' a.2) fun b p2 N2 => ps_ok (Term.add a.1 b.1, b.2) p2 N2 := by
        rw [ps_stmts, if_neg (show ¬ lxt T p = 325 from h125)]
      refine H.stm hk hs h18 h20 hs60 (fun t s1 p1 N1 h1 hp1 c1 k μ5 f5 g5 e18 e20 hs1 hcc hcp hck hkc e22 hT hk4 H5 => y1 ?_) fun k q N' h1 h0 μ5 f5 hF => z1 (hn k q N' (by rw [hst, h1]; rfl) h0 μ5 f5 hF)
      rw [h1] at hst
      have hst2 : ps_stmts T st (g + 1) p N s = ps_b (ps_stmts T st g p1 N1 s1) fun b p2 N2 => ps_ok (Term.add t b.1, b.2) p2 N2 := hst
      refine ⟨fun _ => S_link hx3 (by omega) ?_, fun c1 => absurd c1 hx2⟩
      have e22' : ∀ v, mI (mm_sA μ5 15 (5 * (8400 + tl) + 4) v) 22 = mI μ5 22 := fun _ => rfl
      rw [e22']
      have f7 : fr [15] μ5 (mm_sA μ5 15 (5 * (8400 + tl) + 4) (mI μ5 22)) := fr.refl.sA (by decide)
      have g7 : ∀ q, ¬ q = 5 * (8400 + tl) + 4 → mA (mm_sA μ5 15 (5 * (8400 + tl) + 4) (mI μ5 22)) 15 q = mA μ5 15 q := fun q hq => mA_i hq
      have H7 : CX ks T μ0 p0 c0 p1 N1 c1 (mm_sA μ5 15 (5 * (8400 + tl) + 4) (mI μ5 22)) := by
        obtain ⟨b1, b2, b3, b4, b5, b6, b7⟩ := H5
        exact ⟨b1.fr f7 (by decide), b2.trans (f7.more fun k h => hk k ((by decide : ∀ k ∈ [15], k ∈ pks) k h)), ⟨fun q hq => (g7 q (by omega)).trans (b3.1 q hq), b3.2.trans (f7.w1 (by decide))⟩, b4, b5, b6, b7⟩
      have htk : ¬ 5 * (8400 + k) + 4 = 5 * (8400 + tl) + 4 := by omega
      refine S_block_l hk hs hx2 g p1 N1 s1 c1 k _ _ H7 (by omega) e18 e20 hs1 e22 (by omega) hkc ?_ (fun b s' p' N' h2 hp2 c' μ' H' k18 k20 hs' hcc2 heq hB h21 => ?_) fun k q N' h2 h0 μ' f' hF => hn k q N' (by rw [hst2, h2]; rfl) h0 μ' f' hF
      · show mA (mm_sA μ5 15 (5 * (8400 + tl) + 4) (mI μ5 22)) 15 (5 * (8400 + k) + 4) = -1
        rw [g7 _ htk]
        exact hk4
      · have hkeep : ∀ q, q < 5 * (8400 + c1) → ¬ q = 5 * (8400 + k) + 4 → ¬ q = 5 * (8400 + tl) + 4 → mA μ' 15 q = mA μ5 15 q := fun q h1 h2 h3 => (heq q h1 h2).trans (g7 q h3)
        refine hy (.add t b) s' p' N' (by rw [hst2, h2]; rfl) (by omega) c' μ' H' k18 k20 hs' (by omega) (fun q hq hqt => ?_) ?_ h21
        · rw [hkeep q (by omega) (by omega) hqt]
          exact g5 q hq
        · have e : nf (mA μ' 15) 8400 tl 4 = nI k := by
            show mA μ' 15 (5 * (8400 + tl) + 4) = nI k
            rw [heq _ (by omega) (by omega), mA_s, e22]
          rw [e]
          refine isB_cons (by omega) (by omega) ?_ hB
          exact (isT.mono hck (fun q h1 h2 => hkeep q (by omega) (by omega) (by omega)) hT).lo (by omega)
/-- a block -/
theorem S_block {x1 : Int32} {ns : Int32} {st : Nat → ps_N → Nat → ps_B} (hs : SubS (W_X6_statement G ρ (d + 4) x1) T ns st) : SubB (W_X6_block G ρ (d + 5) x1) T ns (ps_blk T st) := fun p N c s μ Q hI hc h18 h20 hs60 hQ => by
  have hk : ksP pks := fun k h => h
  have H := CX.start (ks := pks) hI hc
  have hy : ∀ t s' p' N', ps_blk T st p N s = ps_ok (t, s') p' N' → p < p' → ∀ c' μ', CX pks T μ p c p' N' c' μ' → mI μ' 18 = ns → mI μ' 20 = nI s' → s' ≤ 60 → isB (mA μ' 15) 8400 c t c' (mI μ' 21) → Q 1 μ' := fun t s' p' N' h1 hp c' μ' H' k18 k20 hs' hB => by
    refine hQ 1 μ' ⟨H'.2.1, ?_⟩
    rw [h1]
    exact ⟨rfl, hp, k18.trans h18.symm, k20, hs', H'.2.2.1.1, c', H'.1, H'.2.2.2.1, H'.2.2.2.2.2.1, hB⟩
  have hn : ∀ k q N', ps_blk T st p N s = ps_f k q N' → ¬ k = 0 → ∀ μ', ff pks c μ μ' → PF k q N' μ' → Q 0 μ' := fun k q N' h1 h0 μ' f' hF => by
    refine hQ 0 μ' ⟨f'.1, ?_⟩
    rw [h1]
    exact ⟨rfl, h0, hF, f'.2.1⟩
  unfold ps_blk at hy hn
  refine W_X6_block_f (H.need hk (by decide) (fun h123 μ1 f1 hp1 H1 => y1 ?_) fun h123 μ1 f1 hF => z1 (hn 1 (lxa T p) N (by unfold ps_need; rw [if_neg h123]; rfl) (by decide) μ1 f1 hF))
  have hnd : ps_need T 123 p N = ps_ok () (lxe T p) N := by unfold ps_need; rw [if_pos h123]
  rw [hnd] at hy hn
  have hy2 : ∀ t s' p' N', ps_stmts T st 1001 (lxe T p) N s = ps_ok (t, s') p' N' → p < p' → ∀ c' μ', CX pks T μ p c p' N' c' μ' → mI μ' 18 = ns → mI μ' 20 = nI s' → s' ≤ 60 → isB (mA μ' 15) 8400 c t c' (mI μ' 21) → Q 1 μ' := hy
  have hn2 : ∀ k q N', ps_stmts T st 1001 (lxe T p) N s = ps_f k q N' → ¬ k = 0 → ∀ μ', ff pks c μ μ' → PF k q N' μ' → Q 0 μ' := hn
  have e18 : mI μ1 18 = ns := (f1.eI (by decide)).trans h18
  have e20 : mI μ1 20 = nI s := (f1.eI (by decide)).trans h20
  refine B_X6_block_15_f (S_isSign H1.1 ?_)
  by_cases h125 : lxt T (lxe T p) = 200 + 125
  · rw [if_pos h125]
    refine y1 (H1.next hk (by rw [h125]; decide) fun μ3 f3 hg3 H3 μ4 e4 => ?_)
    have f4 : fr [21] μ3 μ4 := by rw [e4]; exact fr.refl.sI (by decide)
    refine hy2 .thrown s (lxe T (lxe T p)) N ?_ (by omega) c μ4 (H3.setI e4 (by decide) (by decide) (by decide)) ?_ ?_ hs60 ?_
    · rw [ps_stmts, if_pos (show lxt T (lxe T p) = 325 from h125)]
    · rw [f4.eI (by decide), f3.eI (by decide)]; exact e18
    · rw [f4.eI (by decide), f3.eI (by decide)]; exact e20
    · rw [e4, mI_s]; rfl
  · rw [if_neg h125]
    refine z1 ?_
    have hst : ps_stmts T st 1001 (lxe T p) N s = ps_b (st (lxe T p) N s) fun a p' N' => ps_b (ps_stmts T st 1000 p' N' a.2) fun b p2 N2 => ps_ok (Term.add a.1 b.1, b.2) p2 N2 := by
      rw [ps_stmts, if_neg (show ¬ lxt T (lxe T p) = 325 from h125)]
    refine H1.stm hk hs e18 e20 hs60 (fun t s1 p1 N1 h1 hp2 c1 k μ5 f5 g5 k18 k20 hs1 hcc hcp hck hkc e22 hT hk4 H5 => y1 ?_) fun k q N' h1 h0 μ5 f5 hF => z1 (hn2 k q N' (by rw [hst, h1]; rfl) h0 μ5 f5 hF)
    rw [h1] at hst
    have hst2 : ps_stmts T st 1001 (lxe T p) N s = ps_b (ps_stmts T st 1000 p1 N1 s1) fun b p2 N2 => ps_ok (Term.add t b.1, b.2) p2 N2 := hst
    have h1000 := H5.p_le
    have hkk : k < 2 ^ 31 := by
      obtain ⟨-, -, -, -, a1, a2, a3⟩ := H5
      omega
    refine ⟨fun c1 => absurd rfl c1, fun _ => ?_⟩
    rw [e22]
    refine S_block_l hk hs (nI_m1 hkk) 1000 p1 N1 s1 c1 k _ μ5 H5 (by omega) k18 k20 hs1 rfl hck hkc hk4 (fun b s' p' N' h2 hp3 c' μ' H' j18 j20 hs' hcc2 heq hB h21 => ?_) fun k q N' h2 h0 μ' f' hF => hn2 k q N' (by rw [hst2, h2]; rfl) h0 μ' f' hF
    refine hy2 (.add t b) s' p' N' (by rw [hst2, h2]; rfl) (by omega) c' μ' H' j18 j20 hs' ?_
    rw [h21]
    refine isB_cons hck (by omega) ?_ hB
    exact isT.mono hck (fun q h1 h2 => heq q (by omega) (by omega)) hT
end
