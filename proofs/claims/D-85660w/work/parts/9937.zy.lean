set_option maxRecDepth 100000
section
variable {G : am_G} {ρ : mm_F} {C : Ctx} {s : RSt} {c dp : Nat} {v last : Int32} {d : Nat}
theorem srt_rd {m : Nat} : (∀ u, fUp s.2.1 (cK C c) (nI m) = some u → srt C s c (nI m) = 0 ∧ rdv C s c (nI m) = some (s.2.2.1 (ixV c (nI m)))) ∧ (∀ u, fUp s.2.1 (cK C c) (nI m) = none → sUp s.2.1 (cK C c) (nI m) = some u → srt C s c (nI m) = 1 ∧ rdv C s c (nI m) = some (gtS s.2.1 u (nI m))) ∧ (fUp s.2.1 (cK C c) (nI m) = none → sUp s.2.1 (cK C c) (nI m) = none → (cH C (ixV c (nI m)) = 0 → srt C s c (nI m) = -1 ∧ rdv C s c (nI m) = none) ∧ (¬ cH C (ixV c (nI m)) = 0 → srt C s c (nI m) = 2 ∧ rdv C s c (nI m) = some (s.2.2.2.1 (ixV c (nI m))))) := by
  unfold srt rdv
  refine ⟨fun u h => ?_, fun u h1 h2 => ?_, fun h1 h2 => ⟨fun h => ?_, fun h => ?_⟩⟩
  · rw [show fUp s.2.1 (C.2.2.1 c) (nI m) = some u from h]; exact ⟨rfl, rfl⟩
  · rw [show fUp s.2.1 (C.2.2.1 c) (nI m) = none from h1, show sUp s.2.1 (C.2.2.1 c) (nI m) = some u from h2]; exact ⟨rfl, rfl⟩
  · rw [show fUp s.2.1 (C.2.2.1 c) (nI m) = none from h1, show sUp s.2.1 (C.2.2.1 c) (nI m) = none from h2]
    exact ⟨if_pos h, if_pos h⟩
  · rw [show fUp s.2.1 (C.2.2.1 c) (nI m) = none from h1, show sUp s.2.1 (C.2.2.1 c) (nI m) = none from h2]
    exact ⟨if_neg h, if_neg h⟩
/-- what is under a name, as the model reads it; W: what is done with it -/
theorem M_get {μ : mm_S} (H : MR C s μ) (hc : c < cN C) (hl : cL C c = true) {m : Nat} (hm : m < 40) {K : Int32 → mm_S → Prop} {N : Prop} (hy : ∀ y, rdv C s c (nI m) = some y → K y μ) (hn : rdv C s c (nI m) = none → N) : (¬ srt C s c (nI m) = (-1) → ((¬ srt C s c (nI m) = 0 → ((¬ srt C s c (nI m) = 2 → (vp_in (nI c) 40 ∧ W_X6_fixedAt G ρ (d + 2) 0 (mA μ 35 (Int32.toNatClampNeg (nI c))) (nI m) μ (fun v13 μ12 => (vp_in (nI c) 40 ∧ W_X6_fixedAt G ρ (d + 2) 0 (mA μ12 35 (Int32.toNatClampNeg (nI c))) (nI m) μ12 (fun v15 μ14 => W_X6_fixedOf G ρ (d + 2) 0 v15 (nI m) μ14 (fun v17 μ16 => W_X6_get G ρ (d + 2) 0 v13 (35 + v17) μ16 K)))))) ∧ (srt C s c (nI m) = 2 → (vp_in ((40 * nI c) + nI m) 1600 ∧ K (mA μ 37 (Int32.toNatClampNeg ((40 * nI c) + nI m))) μ)))) ∧ (srt C s c (nI m) = 0 → (vp_in ((40 * nI c) + nI m) 1600 ∧ K (mA μ 36 (Int32.toNatClampNeg ((40 * nI c) + nI m))) μ)))) ∧ (srt C s c (nI m) = (-1) → N) := by
  obtain ⟨r1, r2, r3⟩ := srt_rd (C := C) (s := s) (c := c) (m := m)
  have hc40 := H.2.2.1.2.1
  rw [M_i40, nI_clamp (show 40 * c + m < 2 ^ 31 by omega)]
  have hix : ixV c (nI m) = 40 * c + m := ixV_n rfl hm
  cases hf : fUp s.2.1 (cK C c) (nI m) with
  | some u =>
    obtain ⟨e1, e2⟩ := r1 u hf
    rw [e1]
    refine ⟨fun _ => ⟨fun h9 => absurd rfl h9, fun _ => ⟨vp_in_nI (by omega) (by decide), ?_⟩⟩, fun h9 => absurd h9 (by decide)⟩
    rw [H.2.1.1 _ (by omega)]
    exact hy _ (by rw [e2, hix])
  | none =>
    cases hs : sUp s.2.1 (cK C c) (nI m) with
    | some u =>
      obtain ⟨e1, e2⟩ := r2 u hf hs
      rw [e1]
      refine ⟨fun _ => ⟨fun _ => ⟨fun _ => ?_, fun h9 => absurd h9 (by decide)⟩, fun h9 => absurd h9 (by decide)⟩, fun h9 => absurd h9 (by decide)⟩
      refine M_fxAt H hc hl hs (K := fun v13 v17 μ16 => W_X6_get G ρ (d + 2) 0 v13 (35 + v17) μ16 K) fun ku i sv u1 hi s1 hi4 hu12 hg => ?_
      refine S_get rfl rfl (show (35 : Int32) + nI i = nI (35 + i) from nI_add 35 i) (by decide) hu12 (by omega) ?_
      have := (H.1.1.2.2 u ku u1).2.2.2.2.2.2.1.2.2 i sv s1
      have e9 : wd μ 0 u (35 + i) = sv.2 := this.2
      rw [e9]
      exact hy _ (by rw [e2, hg])
    | none =>
      obtain ⟨q1, q2⟩ := r3 hf hs
      by_cases h0 : cH C (ixV c (nI m)) = 0
      · obtain ⟨e1, e2⟩ := q1 h0
        rw [e1]
        exact ⟨fun h9 => absurd rfl h9, fun _ => hn e2⟩
      · obtain ⟨e1, e2⟩ := q2 h0
        rw [e1]
        refine ⟨fun _ => ⟨fun _ => ⟨fun h9 => absurd rfl h9, fun _ => ⟨vp_in_nI (by omega) (by decide), ?_⟩⟩, fun h9 => absurd h9 (by decide)⟩, fun h9 => absurd h9 (by decide)⟩
        rw [H.2.1.2.1 _ (by omega)]
        exact hy _ (by rw [e2, hix])
/-- numbers worked out by the model -/
theorem M_ev (hc : c < cN C) (hl : cL C c = true) (hdp : dp ≤ 20) {nd : Nat → Int32} {txt : Nat} (ht : txt < 7) : ∀ (t : Term) (k D : Nat), isE nd (1200 * txt) 0 t k → k < 1100 → hm t + 40 ≤ D → MV G ρ C s c dp v last nd txt D k (ev (rdv C s c) v last t) := by
  intro t
  have hdp' : (nI dp).toNatClampNeg = dp := nI_clamp (by omega)
  have vdp : vp_in (nI dp) 21 := vp_in_nI (by omega) (by decide)
  have op : ∀ {a b : Term} {o : Int32} {f9 : Int32 → Int32 → Int32 ⊕ Int32} (t : Term), opM o f9 → hm t = max (hm a) (hm b) + 1 → ev (rdv C s c) v last t = ev2 (ev (rdv C s c) v last a) (ev (rdv C s c) v last b) f9 → (∀ k, isE nd (1200 * txt) 0 t k → nf nd (1200 * txt) k 0 = o ∧ ∃ i j, i < k ∧ j < k ∧ nf nd (1200 * txt) k 1 = nI i ∧ nf nd (1200 * txt) k 2 = nI j ∧ isE nd (1200 * txt) 0 a i ∧ isE nd (1200 * txt) 0 b j) → (∀ (k D : Nat), isE nd (1200 * txt) 0 a k → k < 1100 → hm a + 40 ≤ D → MV G ρ C s c dp v last nd txt D k (ev (rdv C s c) v last a)) → (∀ (k D : Nat), isE nd (1200 * txt) 0 b k → k < 1100 → hm b + 40 ≤ D → MV G ρ C s c dp v last nd txt D k (ev (rdv C s c) v last b)) → ∀ (k D : Nat), isE nd (1200 * txt) 0 t k → k < 1100 → hm t + 40 ≤ D → MV G ρ C s c dp v last nd txt D k (ev (rdv C s c) v last t) := by
    intro a b o f9 t hop hh hev hE iha ihb k D hT hk hD
    obtain ⟨n0, i, j, hi, hj, n1, n2, ea, eb⟩ := hE _ hT
    obtain ⟨D', rfl⟩ : ∃ D', D = D' + 2 := ⟨D - 2, by omega⟩
    rw [hev]
    exact MV_op hop ht (by omega) hi hj n0 n1 n2 (iha i _ ea (by omega) (by omega)) (ihb j _ eb (by omega) (by omega))
  induction t with
  | int x =>
    intro k D hT hk hD
    obtain ⟨D', rfl⟩ : ∃ D', D = D' + 1 + 1 := ⟨D - 2, by omega⟩
    obtain ⟨-, n0, n1⟩ := hT
    refine MV_leaf ht (by omega) n0 (by decide) fun P μ Q hN H hF hP hPk hy hn => W_X6_single_f (M_of (f := 0) rfl rfl (by omega) ?_)
    rw [show mA μ 15 (5 * (1200 * txt + k) + 0) = 1 from by rw [hN]; exact n0]
    refine ⟨vdp, fun h9 => absurd rfl h9, fun _ => M_of (f := 1) rfl rfl (by omega) fun μ1 e1 => ?_⟩
    rw [show mA μ 15 (5 * (1200 * txt + k) + 1) = x from by rw [hN]; exact n1] at e1
    exact hy x μ1 rfl (by rw [e1]; exact EvF.refl.sI (by decide)) (by rw [e1, mI_o (by decide)]; exact hP) (by rw [e1, mI_s])
  | null =>
    intro k D hT hk hD
    obtain ⟨D', rfl⟩ : ∃ D', D = D' + 1 + 1 := ⟨D - 2, by omega⟩
    obtain ⟨-, n0⟩ := hT
    refine MV_leaf ht (by omega) n0 (by decide) fun P μ Q hN H hF hP hPk hy hn => W_X6_single_f (M_of (f := 0) rfl rfl (by omega) ?_)
    rw [show mA μ 15 (5 * (1200 * txt + k) + 0) = 3 from by rw [hN]; exact n0]
    refine ⟨vdp, fun _ => ⟨fun _ => B_X6_single_42_f ⟨fun h9 => absurd rfl h9, fun _ => ⟨vdp, fun μ1 e1 => ?_⟩⟩, fun h9 => absurd rfl h9⟩, fun h9 => absurd h9 (by decide)⟩
    rw [hdp', hF.2.1] at e1
    exact hy v μ1 rfl (by rw [e1]; exact EvF.refl.sI (by decide)) (by rw [e1, mI_o (by decide)]; exact hP) (by rw [e1, mI_s])
  | result =>
    intro k D hT hk hD
    obtain ⟨D', rfl⟩ : ∃ D', D = D' + 1 + 1 := ⟨D - 2, by omega⟩
    obtain ⟨-, n0⟩ := hT
    refine MV_leaf ht (by omega) n0 (by decide) fun P μ Q hN H hF hP hPk hy hn => W_X6_single_f (M_of (f := 0) rfl rfl (by omega) ?_)
    rw [show mA μ 15 (5 * (1200 * txt + k) + 0) = 4 from by rw [hN]; exact n0]
    refine ⟨vdp, fun _ => ⟨fun h9 => absurd h9 (by decide), fun _ => ⟨fun h9 => absurd rfl h9, fun _ => B_X6_single_42_f ⟨fun _ => ⟨vdp, fun μ1 e1 => ?_⟩, fun h9 => absurd h9 (by decide)⟩⟩⟩, fun h9 => absurd h9 (by decide)⟩
    rw [hdp', hF.2.2] at e1
    exact hy last μ1 rfl (by rw [e1]; exact EvF.refl.sI (by decide)) (by rw [e1, mI_o (by decide)]; exact hP) (by rw [e1, mI_s])
  | index m =>
    intro k D hT hk hD
    obtain ⟨D', rfl⟩ : ∃ D', D = D' + 3 + 1 + 1 := ⟨D - 5, by omega⟩
    obtain ⟨-, n0, n1, hm⟩ := hT
    refine MV_leaf ht (by omega) n0 (by decide) fun P μ Q hN H hF hP hPk hy hn => W_X6_single_f (M_of (f := 0) rfl rfl (by omega) ?_)
    rw [show mA μ 15 (5 * (1200 * txt + k) + 0) = 2 from by rw [hN]; exact n0]
    refine ⟨vdp, fun _ => ⟨fun h9 => absurd h9 (by decide), fun _ => ⟨fun _ => ⟨fun h9 => absurd rfl h9, fun _ => M_of (f := 1) rfl rfl (by omega) ?_⟩, fun h9 => absurd h9 (by decide)⟩⟩, fun h9 => absurd h9 (by decide)⟩
    rw [show mA μ 15 (5 * (1200 * txt + k) + 1) = nI m from by rw [hN]; exact n1, hdp', hF.1]
    refine M_sort H hc hl hm (M_get (d := D' + 1) H hc hl hm (K := fun v19 μ18 => ∀ μ20 : mm_S, μ20 = mm_sI μ18 52 v19 → Q 1 μ20) (fun y e => ?_) fun e => ?_)
    · intro μ1 e1
      exact hy y μ1 (by show (match rdv C s c (nI m) with | none => (Sum.inl 1001 : Int32 ⊕ Int32) | some x => Sum.inr x) = _; rw [e]) (by rw [e1]; exact EvF.refl.sI (by decide)) (by rw [e1, mI_o (by decide)]; exact hP) (by rw [e1, mI_s])
    · refine W_X6_fails_f fun μ1 e1 => ⟨by rfl, ?_⟩
      exact hn 1001 μ1 (by show (match rdv C s c (nI m) with | none => (Sum.inl 1001 : Int32 ⊕ Int32) | some x => Sum.inr x) = _; rw [e]) (by rw [e1]; exact EvF.refl.sI (by decide)) (by rw [e1, mI_o (by decide)]; exact hP) (by rw [e1, mI_s])
  | old a iha =>
    intro k D hT hk hD
    have hh : hm (.old a) = hm a + 2 := rfl
    obtain ⟨D', rfl⟩ : ∃ D', D = D' + 1 + 1 + 1 := ⟨D - 3, by omega⟩
    obtain ⟨-, n0, i, hi, n1, ea⟩ := hT
    have e9 : ev (rdv C s c) v last (.old a) = match ev (rdv C s c) v last a with | .inl e => .inl e | .inr x => .inr (-x) := rfl
    refine MV_leaf ht (by omega) n0 (by decide) fun P μ Q hN H hF hP hPk hy hn => W_X6_single_f (M_of (f := 0) rfl rfl (by omega) ?_)
    rw [show mA μ 15 (5 * (1200 * txt + k) + 0) = 5 from by rw [hN]; exact n0]
    refine ⟨vdp, fun _ => ⟨fun h9 => absurd h9 (by decide), fun _ => ⟨fun _ => ⟨fun _ => M_in rfl rfl (by omega) (by omega) (by decide) ?_, fun h9 => absurd h9 (by decide)⟩, fun h9 => absurd h9 (by decide)⟩⟩, fun h9 => absurd h9 (by decide)⟩
    rw [hN, n1, gI_n (by omega)]
    refine (iha i _ ea (by omega) (by omega)).eval hN H hF hP (by omega) (fun x μ1 ex g g1 g2 => ⟨fun _ μ2 e2 => ?_, fun h9 => absurd h9 (by decide)⟩) fun q μ1 ex g g1 g2 => ⟨fun h9 => absurd rfl h9, fun _ => hn q μ1 (by rw [e9, ex]) g g1 g2⟩
    exact hy (-x) μ2 (by rw [e9, ex]) (by rw [e2]; exact g.sI (by decide)) (by rw [e2, mI_o (by decide)]; exact g1) (by rw [e2, mI_s, g2])
  | add a b iha ihb => exact op _ opM_add rfl rfl (fun k h => h.2) iha ihb
  | sub a b iha ihb => exact op _ opM_sub rfl rfl (fun k h => h.2) iha ihb
  | mul a b iha ihb => exact op _ opM_mul rfl rfl (fun k h => h.2) iha ihb
  | div a b iha ihb => exact op _ opM_div rfl rfl (fun k h => h.2) iha ihb
  | elem a b iha ihb => exact op _ opM_lt rfl rfl (fun k h => h.2) iha ihb
  | rem a b iha ihb => exact op _ opM_eq rfl rfl (fun k h => h.2) iha ihb
  | _ => exact fun k D hT => hT.elim
end
