set_option maxRecDepth 100000
theorem isB.up {nd : Nat → Int32} {B lo : Nat} : ∀ (t : Term) (m m2 : Nat) (x : Int32), m ≤ m2 → isB nd B lo t m x → isB nd B lo t m2 x
  | .thrown, m, m2, x, hm, hB => hB
  | .add (.elem (.index n) e) b, m, m2, x, hm, hB => by
    obtain ⟨k, e0, el, e1, e2, e3, e4, e5, e8⟩ := hB
    exact ⟨k, e0, el, by omega, e2, e3, e4, e5, isB.up b m m2 _ hm e8⟩
  | .add (.length e) b, m, m2, x, hm, hB => by
    obtain ⟨k, e0, el, e1, e2, e5, e8⟩ := hB
    exact ⟨k, e0, el, by omega, e2, e5, isB.up b m m2 _ hm e8⟩
  | .add (.sum e) b, m, m2, x, hm, hB => by
    obtain ⟨k, e0, el, e1, e2, e5, e8⟩ := hB
    exact ⟨k, e0, el, by omega, e2, e5, isB.up b m m2 _ hm e8⟩
  | .add .null b, m, m2, x, hm, hB => by
    obtain ⟨k, e0, el, e1, e2, e8⟩ := hB
    exact ⟨k, e0, el, by omega, e2, isB.up b m m2 _ hm e8⟩
  | .add (.arg a) b, m, m2, x, hm, hB => by
    obtain ⟨k, e0, el, e1, e2, e3, e4, e8⟩ := hB
    exact ⟨k, e0, el, by omega, e2, e3, e4, isB.up b m m2 _ hm e8⟩
  | .add (.mul (.index l) (.index a)) b, m, m2, x, hm, hB => by
    obtain ⟨k, e0, el, e1, e2, e3, e4, e5, e6, e8⟩ := hB
    exact ⟨k, e0, el, by omega, e2, e3, e4, e5, e6, isB.up b m m2 _ hm e8⟩
  | .add .result b, m, m2, x, hm, hB => by
    obtain ⟨k, e0, el, e1, e2, e8⟩ := hB
    exact ⟨k, e0, el, by omega, e2, isB.up b m m2 _ hm e8⟩
  | .add (.sub e (.sub y n)) b, m, m2, x, hm, hB => by
    obtain ⟨k, e0, el, e1, e2, e5, e9, e10, e8⟩ := hB
    exact ⟨k, e0, el, by omega, e2, e5, e9, e10, isB.up b m m2 _ hm e8⟩
/-- what is asked of a statement's reading: it is read; it is refused -/
def StY (ks : List Nat) (T : Nat → Int32) (μ0 : mm_S) (p0 c0 : Nat) (ns : Int32) (res : ps_B) (Q : Int32 → mm_S → Prop) : Prop := ∀ t s' p' N', res = ps_ok (t, s') p' N' → p0 < p' → ∀ c' k μ', CX ks T μ0 p0 c0 p' N' c' μ' → mI μ' 18 = ns → mI μ' 20 = nI s' → s' ≤ 60 → c0 ≤ k → k < c' → mI μ' 22 = nI k → isT (mA μ' 15) 8400 c0 t k → nf (mA μ' 15) 8400 k 4 = -1 → Q 1 μ'
def StN {α : Type} (ks : List Nat) (μ0 : mm_S) (c0 : Nat) (res : ps_R α) (Q : Int32 → mm_S → Prop) : Prop := ∀ k q N', res = ps_f k q N' → ¬ k = 0 → ∀ μ', ff ks c0 μ0 μ' → PF k q N' μ' → Q 0 μ'
section
variable {G : am_G} {ρ : mm_F} {d : Nat} {T : Nat → Int32} {ks : List Nat} {p0 c0 p c : Nat} {N : ps_N} {μ0 μ : mm_S}
theorem S_expr {r : Nat} (hr : r ≤ 12) (hd : 4 * r ≤ d) : SubM (W_X6_expression G ρ (d + 8)) T (nI (12 - r)) (ps_exp T (ps_unit T r)) := S_exp (d := d + 2) (S_sum (d := d + 2) (S_product (d := d + 1) (S_unit r hr d hd)))
theorem S_semi2 {o a1 a2 a3 ns : Int32} {t : Term} {s : Nat} {Q : Int32 → mm_S → Prop} (H : CX ks T μ0 p0 c0 p N c μ) (hk : ksP ks) (h18 : mI μ 18 = ns) (h20 : mI μ 20 = nI s) (hs : s ≤ 60) (hc : c + p0 < p + c0) (hT : ∀ nd : Nat → Int32, (∀ q, q < 5 * (8400 + c) → nd q = mA μ 15 q) → nf nd 8400 c 0 = o → nf nd 8400 c 1 = a1 → nf nd 8400 c 2 = a2 → nf nd 8400 c 3 = a3 → isT nd 8400 c0 t c) (hY : StY ks T μ0 p0 c0 ns (ps_semi T t s p N) Q) (hN : StN ks μ0 c0 (ps_semi T t s p N) Q) : W_X6_node G ρ (d + 4) o a1 a2 a3 μ (fun v μ1 => ∀ μ3 : mm_S, μ3 = mm_sI μ1 22 v → W_X6_need G ρ (d + 4) 59 μ3 (fun v5 μ4 => narrow .boolean (.int v5) = .int v5 ∧ Q v5 μ4)) := by
  have hp0 : p0 ≤ p := H.2.2.2.2.1
  have hcc : c0 ≤ c := H.2.2.2.1
  exact S_semi H hk (hk 22 (by decide)) hc hT (fun p' h1 hp μ' f g H' e22 hT' n4 => hY t s p' N h1 (by omega) (c + 1) c μ' H' ((f.eI (by decide)).trans h18) ((f.eI (by decide)).trans h20) hs hcc (by omega) e22 hT' n4) fun h1 μ' f hF => hN 1 _ N h1 (by decide) μ' f hF
/-- give, fail -/
theorem S_st167 {o ns x2 : Int32} {mk : Term → Term} {s : Nat} {ps : Nat → ps_N → ps_R Term} {Q : Int32 → mm_S → Prop} (H : CX ks T μ0 p0 c0 p N c μ) (hk : ksP ks) (hs : SubM (W_X6_expression G ρ (d + 4)) T ns ps) (h18 : mI μ 18 = ns) (h20 : mI μ 20 = nI s) (hs60 : s ≤ 60) (hlt0 : c + p0 < p + c0) (hx : (x2 = 106 ∧ o = 21) ∨ (¬ x2 = 106 ∧ o = 22)) (hmk : ∀ (nd : Nat → Int32) (e : Term) (k : Nat), nf nd 8400 k 0 = o → (∃ i, i < k ∧ nf nd 8400 k 1 = nI i ∧ isE nd 8400 c0 e i) → isT nd 8400 c0 (mk e) k) (hY : StY ks T μ0 p0 c0 ns (ps_b (ps p N) fun e p1 N1 => ps_semi T (mk e) s p1 N1) Q) (hN : StN ks μ0 c0 (ps_b (ps p N) fun e p1 N1 => ps_semi T (mk e) s p1 N1) Q) : B_X6_statement_167 G ρ (d + 5) x2 μ Q := by
  have hc1 : c + p0 ≤ p + c0 := H.2.2.2.2.2.1
  refine B_X6_statement_167_f (H.sub hk hs h18 (fun t p' N' h1 hp c' k μ1 f1 g1 e18 hcc hcp hkc e19 hE H1 => y1 ?_) fun k q N' h1 h0 μ' f hF => z1 (hN k q N' (by rw [h1]; rfl) h0 μ' f hF))
  rw [h1] at hY hN
  have hlt : c' + p0 < p' + c0 := by omega
  have go : B_X6_statement_191 G ρ (d + 5) o μ1 Q := B_X6_statement_191_f (S_semi2 H1 hk e18 ((f1.eI (by decide)).trans h20) hs60 hlt (fun nd hnd n0 n1 n2 n3 => hmk nd t c' n0 ⟨k, hkc, n1.trans e19, (isE.mono (m := c') (fun q _ hq => hnd q hq) hkc hE).lo (H.2.2.2.1)⟩) hY hN)
  rcases hx with ⟨h1, h2⟩ | ⟨h1, h2⟩
  · exact ⟨fun c9 => absurd h1 c9, fun _ => by rw [← h2]; exact go⟩
  · exact ⟨fun _ => by rw [← h2]; exact go, fun c9 => absurd c9 h1⟩
/-- a node that a statement is, without a semicolon -/
theorem S_asks66 {ns x1 x2 x3 : Int32} {t : Term} {s u : Nat} {Q : Int32 → mm_S → Prop} (H : CX ks T μ0 p0 c0 p N c μ) (hk : ksP ks) (hu : u + 1 ≤ 12) (h18 : mI μ 18 = nI (12 - u)) (hns : ns = nI (12 - (u + 1))) (h20 : mI μ 20 = nI s) (hs60 : s ≤ 60) (hlt : c + p0 < p + c0) (hp : p0 < p) (hT : ∀ nd : Nat → Int32, (∀ q, q < 5 * (8400 + c) → nd q = mA μ 15 q) → nf nd 8400 c 0 = 27 → nf nd 8400 c 1 = x1 → nf nd 8400 c 2 = x2 → nf nd 8400 c 3 = x3 → isT nd 8400 c0 t c) (hY : StY ks T μ0 p0 c0 ns (ps_ok (t, s) p N) Q) : B_X6_asks_66 G ρ (d + 1) x1 x2 x3 μ Q := by
  have hcc : c0 ≤ c := H.2.2.2.1
  refine B_X6_asks_66_f fun μ1 e1 => ?_
  have f1 : fr [18] μ μ1 := by rw [e1]; exact fr.refl.sI (by decide)
  have H1 := H.setI e1 (hk 18 (by decide)) (by decide) (by decide)
  refine H1.node hk hlt fun μ2 f2 g2 n0 n1 n2 n3 n4 H2 μ4 e4 => ?_
  have f4 : fr [22] μ2 μ4 := by rw [e4]; exact fr.refl.sI (by decide)
  have H4 := H2.setI e4 (hk 22 (by decide)) (by decide) (by decide)
  have e15 : mA μ4 15 = mA μ2 15 := f4.eA (by decide)
  refine hY t s p N rfl hp (c + 1) c μ4 H4 ?_ ?_ hs60 hcc (by omega) ?_ ?_ ?_
  · rw [f4.eI (by decide), f2.eI (by decide), e1, mI_s, h18, hns, show (1 : Int32) = nI 1 from rfl, pk_sub (by omega)]
    congr 1
  · rw [f4.eI (by decide), f2.eI (by decide), f1.eI (by decide)]; exact h20
  · rw [e4, mI_s]
  · rw [e15]
    exact hT _ (fun q hq => (g2 q hq).trans (congrFun (f1.eA (by decide)) q)) n0 n1 n2 n3
  · rw [e15]; exact n4
/-- if -/
theorem S_asks {u s : Nat} {ns : Int32} {Q : Int32 → mm_S → Prop} (H : CX ks T μ0 p0 c0 p N c μ) (hk : ksP ks) (hu : u + 1 ≤ 12) (hd : 4 * u ≤ d + 3) (hns : ns = nI (12 - (u + 1))) (h18 : mI μ 18 = ns) (h20 : mI μ 20 = nI s) (hs60 : s ≤ 60) (h0 : ¬ lxt T p = 0) (hs : SubS (W_X6_statement G ρ (d + 10) 0) T (nI (12 - u)) (ps_stmt T u false))
    (hY : StY ks T μ0 p0 c0 ns (ps_b (ps_exp T (ps_unit T u) (lxe T p) N) fun e p1 N1 => ps_b (ps_blk T (ps_stmt T u false) p1 N1 s) fun y p2 N2 => if lxt T p2 = 113 then ps_b (ps_blk T (ps_stmt T u false) (lxe T p2) N2 y.2) fun n p3 N3 => ps_ok (Term.sub e (Term.sub y.1 n.1), n.2) p3 N3 else ps_ok (Term.sub e (Term.sub y.1 Term.thrown), y.2) p2 N2) Q)
    (hN : StN ks μ0 c0 (ps_b (ps_exp T (ps_unit T u) (lxe T p) N) fun e p1 N1 => ps_b (ps_blk T (ps_stmt T u false) p1 N1 s) fun y p2 N2 => if lxt T p2 = 113 then ps_b (ps_blk T (ps_stmt T u false) (lxe T p2) N2 y.2) fun n p3 N3 => ps_ok (Term.sub e (Term.sub y.1 n.1), n.2) p3 N3 else ps_ok (Term.sub e (Term.sub y.1 Term.thrown), y.2) p2 N2) Q) : W_X6_asks G ρ (d + 12) μ Q := by
  have hp0 : p0 ≤ p := H.2.2.2.2.1
  have hcc0 : c0 ≤ c := H.2.2.2.1
  have hcp0 : c + p0 ≤ p + c0 := H.2.2.2.2.2.1
  refine W_X6_asks_f (S_opens (r := u + 1) H.1 h0 hu (by rw [h18, hns]) (fun μ1 u' hu' f1 k18 i1 => y2 ?_) fun μ' h9 _ _ => absurd h9 (by omega))
  obtain rfl : u = u' := by omega
  have hg := lxe_gt h0
  have H1 : CX ks T μ0 p0 c0 (lxe T p) N c μ1 := by
    obtain ⟨b1, b2, b3, b4, b5, b6, b7⟩ := H
    exact ⟨i1, b2.trans (f1.more fun k h => hk k ((by decide : ∀ k ∈ [2, 3, 4, 5, 10, 18], k ∈ pks) k h)), b3.trans (f1.fz (by decide) (by decide) c0) (Nat.le_refl _), b4, by omega, by omega, b7⟩
  refine H1.sub hk (S_expr (d := d + 3) (by omega) hd) k18 (fun e p1 N1 h1 hp1 c1 k1 μ3 f3 g3 j18 hcc1 hcp1 hkc1 e19 hE H3 => y1 ?_) fun k q N' h1 hk0 μ' f hF => z1 (hN k q N' (by rw [h1]; rfl) hk0 μ' f hF)
  rw [h1] at hY hN
  have hb : SubB (W_X6_block G ρ (d + 11) 0) T (nI (12 - u)) (ps_blk T (ps_stmt T u false)) := S_block (d := d + 6) hs
  have e20 : mI μ3 20 = nI s := ((f3.eI (by decide)).trans (f1.eI (by decide))).trans h20
  refine H3.blk hk hb j18 e20 hs60 (fun y s2 p2 N2 h2 hp2 c2 μ5 f5 g5 l18 l20 hs2 hcc2 hcp2 hB H5 => y1 ?_) fun k q N' h2 hk0 μ' f hF => z1 (hN k q N' (by show ps_b (ps_blk T (ps_stmt T u false) p1 N1 s) _ = _; rw [h2]; rfl) hk0 μ' f hF)
  have hY2 : StY ks T μ0 p0 c0 ns (if lxt T p2 = 113 then ps_b (ps_blk T (ps_stmt T u false) (lxe T p2) N2 s2) fun n p3 N3 => ps_ok (Term.sub e (Term.sub y n.1), n.2) p3 N3 else ps_ok (Term.sub e (Term.sub y Term.thrown), s2) p2 N2) Q := by
    have hY' : StY ks T μ0 p0 c0 ns (ps_b (ps_blk T (ps_stmt T u false) p1 N1 s) fun y p2 N2 => if lxt T p2 = 113 then ps_b (ps_blk T (ps_stmt T u false) (lxe T p2) N2 y.2) fun n p3 N3 => ps_ok (Term.sub e (Term.sub y.1 n.1), n.2) p3 N3 else ps_ok (Term.sub e (Term.sub y.1 Term.thrown), y.2) p2 N2) Q := hY
    rw [h2] at hY'
    exact hY'
  have hN2 : StN ks μ0 c0 (if lxt T p2 = 113 then ps_b (ps_blk T (ps_stmt T u false) (lxe T p2) N2 s2) fun n p3 N3 => ps_ok (Term.sub e (Term.sub y n.1), n.2) p3 N3 else ps_ok (Term.sub e (Term.sub y Term.thrown), s2) p2 N2) Q := by
    have hN' : StN ks μ0 c0 (ps_b (ps_blk T (ps_stmt T u false) p1 N1 s) fun y p2 N2 => if lxt T p2 = 113 then ps_b (ps_blk T (ps_stmt T u false) (lxe T p2) N2 y.2) fun n p3 N3 => ps_ok (Term.sub e (Term.sub y.1 n.1), n.2) p3 N3 else ps_ok (Term.sub e (Term.sub y.1 Term.thrown), y.2) p2 N2) Q := hN
    rw [h2] at hN'
    exact hN'
  rw [H5.tk]
  by_cases h113 : lxt T p2 = 113
  · rw [if_pos h113] at hY2 hN2
    refine ⟨fun c9 => absurd h113 c9, fun _ => H5.next hk (by rw [h113]; decide) fun μ7 f7 hg7 H7 => ?_⟩
    have m18 : mI μ7 18 = nI (12 - u) := (f7.eI (by decide)).trans l18
    have m20 : mI μ7 20 = nI s2 := (f7.eI (by decide)).trans l20
    refine H7.blk hk hb m18 m20 hs2 (fun n s3 p3 N3 h3 hp3 c3 μ8 f8 g8 n18 n20 hs3 hcc3 hcp3 hBn H8 => y1 ?_) fun k q N' h3 hk0 μ' f hF => z1 (hN2 k q N' (by rw [h3]; rfl) hk0 μ' f hF)
    rw [h3] at hY2
    have e15 : mA μ7 15 = mA μ5 15 := f7.eA (by decide)
    refine S_asks66 (u := u) (t := Term.sub e (Term.sub y n)) (s := s3) H8 hk hu n18 hns n20 hs3 (by omega) (by omega) (fun nd hnd n0 n1 n2 n3 => ?_) hY2
    have k5 : ∀ q, q < 5 * (8400 + c2) → nd q = mA μ5 15 q := fun q hq => ((hnd q (by omega)).trans (g8 q (by omega))).trans (congrFun e15 q)
    have k3 : ∀ q, q < 5 * (8400 + c1) → nd q = mA μ3 15 q := fun q hq => (k5 q (by omega)).trans (g5 q hq)
    refine ⟨n0, ⟨k1, by omega, n1.trans e19, (isE.mono (m := c1) (fun q _ hq => k3 q hq) hkc1 hE).lo hcc0⟩, ?_, ?_⟩
    · rw [n2]
      exact isB.up _ c2 c3 _ hcc3 (isB.lo (by omega) _ _ _ (isB.mono (M := c2) (fun q _ hq => k5 q hq) y c2 _ (Nat.le_refl _) hB))
    · rw [n3]
      exact isB.lo (by omega) _ _ _ (isB.mono (M := c3) (fun q _ hq => hnd q hq) n c3 _ (Nat.le_refl _) hBn)
  · rw [if_neg h113] at hY2
    refine ⟨fun _ => S_asks66 (u := u) (t := Term.sub e (Term.sub y Term.thrown)) (s := s2) H5 hk hu l18 hns l20 hs2 (by omega) (by omega) (fun nd hnd n0 n1 n2 n3 => ?_) hY2, fun c9 => absurd c9 h113⟩
    have k3 : ∀ q, q < 5 * (8400 + c1) → nd q = mA μ3 15 q := fun q hq => (hnd q (by omega)).trans (g5 q hq)
    refine ⟨n0, ⟨k1, by omega, n1.trans e19, (isE.mono (m := c1) (fun q _ hq => k3 q hq) hkc1 hE).lo hcc0⟩, ?_, ?_⟩
    · rw [n2]
      exact isB.lo (by omega) _ _ _ (isB.mono (M := c2) (fun q _ hq => hnd q hq) y c2 _ (Nat.le_refl _) hB)
    · rw [n3]
      rfl
/-- do, send -/
theorem S_st263 {o a l ns x4 : Int32} {t : Term} {s : Nat} {Q : Int32 → mm_S → Prop} (H : CX ks T μ0 p0 c0 p N c μ) (hk : ksP ks) (h18 : mI μ 18 = ns) (h20 : mI μ 20 = nI s) (hs : s ≤ 60) (hc : c + p0 < p + c0) (hx4 : x4 = a) (h17 : mI μ 17 = l) (hT : ∀ (nd : Nat → Int32) (k : Nat), nf nd 8400 k 0 = o → nf nd 8400 k 1 = a → nf nd 8400 k 2 = l → isT nd 8400 c0 t k) (hY : StY ks T μ0 p0 c0 ns (ps_semi T t s p N) Q) (hN : StN ks μ0 c0 (ps_semi T t s p N) Q) : B_X6_statement_263 G ρ (d + 5) x4 o μ Q := by
  subst hx4
  refine B_X6_statement_263_f ?_
  rw [h17]
  exact S_semi2 H hk h18 h20 hs hc (fun nd _ n0 n1 n2 _ => hT nd c n0 n1 n2) hY hN
theorem S_st294 {o ns : Int32} {t : Term} {s : Nat} {Q : Int32 → mm_S → Prop} (H : CX ks T μ0 p0 c0 p N c μ) (hk : ksP ks) (h18 : mI μ 18 = ns) (h20 : mI μ 20 = nI s) (hs : s ≤ 60) (hc : c + p0 < p + c0) (hT : ∀ (nd : Nat → Int32) (k : Nat), nf nd 8400 k 0 = o → isT nd 8400 c0 t k) (hY : StY ks T μ0 p0 c0 ns (ps_semi T t s p N) Q) (hN : StN ks μ0 c0 (ps_semi T t s p N) Q) : B_X6_statement_294 G ρ (d + 5) o μ Q :=
  B_X6_statement_294_f (S_semi2 H hk h18 h20 hs hc (fun nd _ n0 _ _ _ => hT nd c n0) hY hN)
theorem S_st218d {ns : Int32} {s : Nat} {Q : Int32 → mm_S → Prop} (H : CX ks T μ0 p0 c0 p N c μ) (hk : ksP ks) (h18 : mI μ 18 = ns) (h20 : mI μ 20 = nI s) (hs : s ≤ 60) (hc : c + p0 < p + c0) (hY : StY ks T μ0 p0 c0 ns (ps_b (ps_name T p N) fun a p1 N1 => ps_semi T (Term.arg a) s p1 N1) Q) (hN : StN ks μ0 c0 (ps_b (ps_name T p N) fun a p1 N1 => ps_semi T (Term.arg a) s p1 N1) Q) : B_X6_statement_218 G ρ (d + 5) 109 μ Q := by
  refine B_X6_statement_218_f (H.named hk (fun a p1 N1 h1 ha haN hp1 μ1 f1 e17 H1 => y1 ?_) fun k q N' h1 h0 μ' f hF => z1 (hN k q N' (by rw [h1]; rfl) h0 μ' f hF))
  rw [h1] at hY hN
  refine ⟨fun _ => ⟨fun c9 => absurd rfl c9, fun _ => ?_⟩, fun c9 => absurd c9 (by decide)⟩
  exact S_st263 (t := Term.arg a) (a := nI a) (l := nI a) H1 hk ((f1.eI (by decide)).trans h18) ((f1.eI (by decide)).trans h20) hs (by omega) e17 e17 (fun nd k n0 n1 n2 => ⟨n0, n1, ha⟩) hY hN
theorem S_st218s {ns : Int32} {s : Nat} {Q : Int32 → mm_S → Prop} (H : CX ks T μ0 p0 c0 p N c μ) (hk : ksP ks) (h18 : mI μ 18 = ns) (h20 : mI μ 20 = nI s) (hs : s ≤ 60) (hc : c + p0 < p + c0) (hY : StY ks T μ0 p0 c0 ns (ps_b (ps_name T p N) fun l p1 N1 => ps_b (ps_name T p1 N1) fun a p2 N2 => ps_semi T (Term.mul (Term.index l) (Term.index a)) s p2 N2) Q) (hN : StN ks μ0 c0 (ps_b (ps_name T p N) fun l p1 N1 => ps_b (ps_name T p1 N1) fun a p2 N2 => ps_semi T (Term.mul (Term.index l) (Term.index a)) s p2 N2) Q) : B_X6_statement_218 G ρ (d + 5) 110 μ Q := by
  refine B_X6_statement_218_f (H.named hk (fun l p1 N1 h1 hl hlN hp1 μ1 f1 e17 H1 => y1 ?_) fun k q N' h1 h0 μ' f hF => z1 (hN k q N' (by rw [h1]; rfl) h0 μ' f hF))
  rw [h1] at hY hN
  have hY1 : StY ks T μ0 p0 c0 ns (ps_b (ps_name T p1 N1) fun a p2 N2 => ps_semi T (Term.mul (Term.index l) (Term.index a)) s p2 N2) Q := hY
  have hN1 : StN ks μ0 c0 (ps_b (ps_name T p1 N1) fun a p2 N2 => ps_semi T (Term.mul (Term.index l) (Term.index a)) s p2 N2) Q := hN
  refine ⟨fun c9 => absurd rfl c9, fun _ => H1.named hk (fun a p2 N2 h2 ha haN hp2 μ3 f3 e17b H3 => y1 ?_) fun k q N' h2 h0 μ' f hF => z1 (hN1 k q N' (by rw [h2]; rfl) h0 μ' f hF)⟩
  rw [h2] at hY1 hN1
  refine ⟨fun _ => ?_, fun c9 => absurd c9 (by decide)⟩
  exact S_st263 (t := Term.mul (Term.index l) (Term.index a)) (a := nI l) (l := nI a) H3 hk (((f3.eI (by decide)).trans (f1.eI (by decide))).trans h18) (((f3.eI (by decide)).trans (f1.eI (by decide))).trans h20) hs (by omega) e17 e17b (fun nd k n0 n1 n2 => ⟨n0, n1, hl, n2, ha⟩) hY1 hN1
/-- a statement -/
theorem S_st1 {r : Nat} {own : Bool} (hr : r ≤ 12) (hd : 4 * r ≤ d) (ih : ∀ s, r = s + 1 → SubS (W_X6_statement G ρ (d + 10) 0) T (nI (12 - s)) (ps_stmt T s false)) : SubS (W_X6_statement G ρ (d + 13) (if own = true then 1 else 0)) T (nI (12 - r)) (ps_stmt T r own) := fun p N c s μ Q hI hc h18 h20 hs60 hQ => by
  have hk : ksP pks := fun k h => h
  have H := CX.start (ks := pks) hI hc
  have hY : StY pks T μ p c (nI (12 - r)) (ps_stmt T r own p N s) Q := fun t s' p' N' h1 hp c' k μ' H' k18 k20 hs' hck hkc e22 hT hn4 => by
    refine hQ 1 μ' ⟨H'.2.1, ?_⟩
    rw [h1]
    exact ⟨rfl, hp, k18.trans h18.symm, k20, hs', H'.2.2.1.1, c', k, H'.1, H'.2.2.2.1, H'.2.2.2.2.2.1, hck, hkc, e22, hT, hn4⟩
  have hN : StN pks μ c (ps_stmt T r own p N s) Q := fun k q N' h1 h0 μ' f' hF => by
    refine hQ 0 μ' ⟨f'.1, ?_⟩
    rw [h1]
    exact ⟨rfl, h0, hF, f'.2.1⟩
  unfold ps_stmt at hY hN
  have e3 : mI μ 3 = lxt T p := H.tk
  have hno : ¬ (lxt T p = 2 ∨ (106 ≤ lxt T p ∧ lxt T p ≤ 112)) → B_X6_statement_26 G ρ (d + 13) (if own = true then 1 else 0) (lxt T p) 0 μ Q := fun hok => by
    rw [if_pos hok] at hN
    exact B_X6_statement_26_f (z1 (H.bad hk fun μ' f hF => ⟨rfl, hN 1 _ N rfl (by decide) μ' f hF⟩))
  have hyes : (lxt T p = 2 ∨ (106 ≤ lxt T p ∧ lxt T p ≤ 112)) → B_X6_statement_26 G ρ (d + 13) (if own = true then 1 else 0) (lxt T p) 1 μ Q := fun hok => by
    rw [if_neg (not_not_intro hok)] at hY hN
    have hz : ¬ lxt T p = 0 := fun e => by rw [e] at hok; exact absurd hok (by decide)
    have hbad : lxt T p = 111 ∧ own = false → W_X6_bad G ρ (d + 12) 2 μ (fun v2 μ1 => narrow .boolean (.int v2) = .int v2 ∧ Q v2 μ1) := fun h9 => by
      rw [if_pos h9] at hN
      exact H.bad hk fun μ' f hF => ⟨rfl, hN 2 _ N rfl (by decide) μ' f hF⟩
    have b53 : ¬ (lxt T p = 111 ∧ own = false) → B_X6_statement_53 G ρ (d + 13) (lxt T p) μ Q := fun h9 => by
      rw [if_neg h9] at hY hN
      refine B_X6_statement_53_f ?_
      rw [h20]
      refine ⟨fun c60 μ1 e1 => ?_, fun c60 => ?_⟩
      · have hs : ¬ s = 60 := fun e => c60 (by rw [e]; rfl)
        rw [if_neg hs] at hY hN
        have f1 : fr [20] μ μ1 := by rw [e1]; exact fr.refl.sI (by decide)
        have H1 := H.setI e1 (by decide) (by decide) (by decide)
        have k20 : mI μ1 20 = nI (s + 1) := by rw [e1, mI_s]; exact nI_1 s
        have k18 : mI μ1 18 = nI (12 - r) := (f1.eI (by decide)).trans h18
        refine ⟨fun n112 => ?_, fun c112 => ?_⟩
        · rw [if_neg n112] at hY hN
          refine ⟨fun n2 => H1.next hk hz fun μ2 f2 hg2 H2 => ?_, fun c2 => ?_⟩
          · rw [if_neg n2] at hY hN
            have m20 : mI μ2 20 = nI (s + 1) := (f2.eI (by decide)).trans k20
            have m18 : mI μ2 18 = nI (12 - r) := (f2.eI (by decide)).trans k18
            have hlt : c + p < lxe T p + c := by omega
            refine ⟨fun c106 => ?_, fun n106 => ⟨fun n107 => ⟨fun c109 => ?_, fun n109 => ⟨fun n110 => ⟨fun n108 => ?_, fun c108 => ?_⟩, fun c110 => ?_⟩⟩, fun c107 => ?_⟩⟩
            · rw [if_pos c106] at hY hN
              exact S_st167 (d := d + 8) (o := 21) (mk := Term.length) H2 hk (S_expr (d := d + 4) hr (by omega)) m18 m20 (by omega) hlt (Or.inl ⟨c106, rfl⟩) (fun nd e k h1 h2 => ⟨h1, h2⟩) hY hN
            · rw [if_neg n106, if_neg n107, if_pos c109] at hY hN
              rw [c109]
              exact S_st218d (d := d + 8) H2 hk m18 m20 (by omega) hlt hY hN
            · rw [if_neg n106, if_neg n107, if_neg n109, if_neg n110, if_neg n108] at hY hN
              exact S_st294 (d := d + 8) (t := Term.result) H2 hk m18 m20 (by omega) hlt (fun nd k h1 => h1) hY hN
            · rw [if_neg n106, if_neg n107, if_neg n109, if_neg n110, if_pos c108] at hY hN
              exact S_st294 (d := d + 8) (t := Term.null) H2 hk m18 m20 (by omega) hlt (fun nd k h1 => h1) hY hN
            · rw [if_neg n106, if_neg n107, if_neg n109, if_pos c110] at hY hN
              rw [c110]
              exact S_st218s (d := d + 8) H2 hk m18 m20 (by omega) hlt hY hN
            · rw [if_neg n106, if_pos c107] at hY hN
              exact S_st167 (d := d + 8) (o := 22) (mk := Term.sum) H2 hk (S_expr (d := d + 4) hr (by omega)) m18 m20 (by omega) hlt (Or.inr ⟨n106, rfl⟩) (fun nd e k h1 h2 => ⟨h1, h2⟩) hY hN
          · rw [if_pos c2] at hY hN
            refine H1.named hk (fun a p1 N1 h1 ha haN hp1 μ3 f3 e17 H3 => y1 ?_) fun k q N' h1 h0 μ' f hF => z1 (hN k q N' (by rw [h1]; rfl) h0 μ' f hF)
            rw [h1] at hY hN
            have hN1 : StN pks μ c (ps_b (ps_need T 61 p1 N1) fun _ p2 N2 => ps_b (ps_exp T (ps_unit T r) p2 N2) fun e p3 N3 => ps_semi T (Term.elem (Term.index a) e) (s + 1) p3 N3) Q := hN
            have hY1 : StY pks T μ p c (nI (12 - r)) (ps_b (ps_need T 61 p1 N1) fun _ p2 N2 => ps_b (ps_exp T (ps_unit T r) p2 N2) fun e p3 N3 => ps_semi T (Term.elem (Term.index a) e) (s + 1) p3 N3) Q := hY
            refine H3.need hk (by decide) (fun h61 μ5 f5 hp5 H5 => y2 ?_) fun h61 μ5 f5 hF => z2 (hN1 1 _ N1 (by unfold ps_need; rw [if_neg h61]; rfl) (by decide) μ5 f5 hF)
            have hnd : ps_need T 61 p1 N1 = ps_ok () (lxe T p1) N1 := by unfold ps_need; rw [if_pos h61]
            rw [hnd] at hN1 hY1
            have hN2 : StN pks μ c (ps_b (ps_exp T (ps_unit T r) (lxe T p1) N1) fun e p3 N3 => ps_semi T (Term.elem (Term.index a) e) (s + 1) p3 N3) Q := hN1
            have hY2 : StY pks T μ p c (nI (12 - r)) (ps_b (ps_exp T (ps_unit T r) (lxe T p1) N1) fun e p3 N3 => ps_semi T (Term.elem (Term.index a) e) (s + 1) p3 N3) Q := hY1
            have m18 : mI μ5 18 = nI (12 - r) := ((f5.eI (by decide)).trans (f3.eI (by decide))).trans k18
            have m20 : mI μ5 20 = nI (s + 1) := ((f5.eI (by decide)).trans (f3.eI (by decide))).trans k20
            refine H5.sub hk (S_expr (d := d + 4) hr (by omega)) m18 (fun e p3 N3 h3 hp3 c3 k3 μ7 f7 g7 n18 hcc hcp hkc e19 hE H7 => y1 ?_) fun k q N' h3 h0 μ' f hF => z1 (hN2 k q N' (by rw [h3]; rfl) h0 μ' f hF)
            rw [h3] at hN2 hY2
            rw [e17, e19]
            exact S_semi2 (d := d + 8) (t := Term.elem (Term.index a) e) (s := s + 1) H7 hk n18 ((f7.eI (by decide)).trans m20) (by omega) (by omega) (fun nd hnd n0 n1 n2 n3 => ⟨n0, n1, ha, k3, hkc, n2, isE.mono (m := c3) (fun q _ hq => hnd q hq) hkc hE⟩) hY2 hN2
        · rw [if_pos c112] at hY hN
          cases r with
          | zero =>
            refine W_X6_asks_f (S_opens (r := 0) (d := d + 7) H1.1 hz hr k18 (fun μ' s9 h9 _ _ _ => absurd h9 (by omega)) fun μ' _ f hF => z2 ⟨rfl, hN 3 _ N rfl (by decide) μ' ?_ hF⟩)
            exact ⟨(f1.more (by decide)).trans (f.more (by decide)), (f1.fz (by decide) (by decide) c).trans (f.fz (by decide) (by decide) c) (Nat.le_refl _)⟩
          | succ u =>
            refine S_asks (d := d) (u := u) (s := s + 1) H1 hk hr (by omega) rfl k18 k20 (by omega) hz (ih u rfl) ?_ ?_
            · exact fun t s' p' N' h1 hp c' k μ' H' k18 k20 hs' hck hkc e22 hT hn4 => ⟨rfl, hY t s' p' N' h1 hp c' k μ' H' k18 k20 hs' hck hkc e22 hT hn4⟩
            · exact fun k q N' h1 h0 μ' f hF => ⟨rfl, hN k q N' h1 h0 μ' f hF⟩
      · have hs : s = 60 := (nI_eq (by omega) (by decide)).mp c60
        rw [if_pos hs] at hN
        exact H.bad hk fun μ' f hF => ⟨rfl, hN 3 _ N rfl (by decide) μ' f hF⟩
    refine B_X6_statement_26_f (y1 ⟨fun n111 => b53 fun h9 => n111 h9.1, fun c111 => ?_⟩)
    cases own with
    | false => exact z1 (hbad ⟨c111, rfl⟩)
    | true => exact y1 (b53 fun h9 => absurd h9.2 (by decide))
  refine W_X6_statement_f ?_
  rw [e3]
  refine ⟨fun c2 => hyes (Or.inl c2), fun n2 => S_isIn ⟨fun h => y2 (hyes (Or.inr h)), fun h => z2 (hno fun h9 => h9.elim n2 h)⟩⟩
theorem S_stmt : ∀ (r : Nat), r ≤ 12 → ∀ (own : Bool) (d : Nat), 4 * r ≤ d → SubS (W_X6_statement G ρ (d + 13) (if own = true then 1 else 0)) T (nI (12 - r)) (ps_stmt T r own)
  | 0, hr, own, d, hd => S_st1 hr hd fun s e => absurd e (by omega)
  | r + 1, hr, own, d, hd => S_st1 hr hd fun s e => by
    cases e
    obtain ⟨d2, rfl⟩ : ∃ d2, d = d2 + 3 := ⟨d - 3, by omega⟩
    exact S_stmt r (by omega) false d2 (by omega)
/-- an act's block -/
theorem S_blockO (hd : 48 ≤ d) : SubB (W_X6_block G ρ (d + 14) 1) T (nI 0) (ps_blk T (ps_stmt T 12 true)) := S_block (d := d + 9) (S_stmt 12 (by omega) true d hd)
end
