set_option maxRecDepth 100000
/-- what a run of the model may change -/
abbrev rks : List Nat := [23, 36, 37, 39, 40, 41, 42, 43, 44, 45, 46, 47, 48, 49, 50, 51, 52, 53, 54, 55, 62, 63, 64, 65, 66]
/-- a run in the frame dp: frames up to it stay, but for its last one given -/
def RMf (dp : Nat) (μ μ' : mm_S) : Prop := fr rks μ μ' ∧ (∀ q, 769 ≤ q → mA μ' 23 q = mA μ 23 q) ∧ (∀ i, i ≤ dp → mA μ' 43 i = mA μ 43 i ∧ mA μ' 44 i = mA μ 44 i ∧ mA μ' 46 i = mA μ 46 i ∧ mA μ' 47 i = mA μ 47 i ∧ mA μ' 48 i = mA μ 48 i) ∧ (∀ i, i < dp → mA μ' 45 i = mA μ 45 i) ∧ ∀ q, q < 12 * dp + 12 → mA μ' 49 q = mA μ 49 q ∧ mA μ' 50 q = mA μ 50 q ∧ mA μ' 51 q = mA μ 51 q
theorem RMf.refl {dp : Nat} {μ : mm_S} : RMf dp μ μ := ⟨fr.refl, fun _ _ => rfl, fun _ _ => ⟨rfl, rfl, rfl, rfl, rfl⟩, fun _ _ => rfl, fun _ _ => ⟨rfl, rfl, rfl⟩⟩
theorem RMf.trans {dp : Nat} {μ μ1 μ2 : mm_S} (h1 : RMf dp μ μ1) (h2 : RMf dp μ1 μ2) : RMf dp μ μ2 := ⟨h1.1.trans h2.1, fun q hq => (h2.2.1 q hq).trans (h1.2.1 q hq), fun i hi => by
  obtain ⟨a1, a2, a3, a4, a5⟩ := h1.2.2.1 i hi
  obtain ⟨b1, b2, b3, b4, b5⟩ := h2.2.2.1 i hi
  exact ⟨b1.trans a1, b2.trans a2, b3.trans a3, b4.trans a4, b5.trans a5⟩, fun i hi => (h2.2.2.2.1 i hi).trans (h1.2.2.2.1 i hi), fun q hq => by
  obtain ⟨a1, a2, a3⟩ := h1.2.2.2.2 q hq
  obtain ⟨b1, b2, b3⟩ := h2.2.2.2.2 q hq
  exact ⟨b1.trans a1, b2.trans a2, b3.trans a3⟩⟩
/-- changes elsewhere -/
theorem RMf.of {dp : Nat} {μ μ' : mm_S} {ks : List Nat} (h : fr ks μ μ') (hk : ∀ k, k ∈ ks → k ∈ rks) (h2 : ∀ k, k ∈ [23, 43, 44, 45, 46, 47, 48, 49, 50, 51] → k ∉ ks) : RMf dp μ μ' := by
  have e : ∀ k, k ∈ [23, 43, 44, 45, 46, 47, 48, 49, 50, 51] → mA μ' k = mA μ k := fun k hk => h.eA (h2 k hk)
  exact ⟨h.more hk, fun q _ => by rw [e 23 (by decide)], fun i _ => ⟨by rw [e 43 (by decide)], by rw [e 44 (by decide)], by rw [e 46 (by decide)], by rw [e 47 (by decide)], by rw [e 48 (by decide)]⟩, fun i _ => by rw [e 45 (by decide)], fun q _ => ⟨by rw [e 49 (by decide)], by rw [e 50 (by decide)], by rw [e 51 (by decide)]⟩⟩
theorem RMf.ev {dp P : Nat} {μ μ' : mm_S} (h : EvF P μ μ') : RMf dp μ μ' := RMf.of h.1 (by decide) (by decide)
/-- the frame's last one is written -/
theorem RMf.last {dp : Nat} {x : Int32} {μ : mm_S} : RMf dp μ (mm_sA μ 45 dp x) := by
  refine ⟨fr.refl.sA (by decide), fun q _ => mA_o (by decide), fun i _ => ⟨?_, ?_, ?_, ?_, ?_⟩, fun i hi => mA_i (by omega), fun q _ => ⟨?_, ?_, ?_⟩⟩
  all_goals exact mA_o (by decide)
section
variable {bd : Term → Int32 → Prop} {r : Nat → Int32} {kd : Kd}
/-- a static's value in a row -/
theorem isKr.setV (h : isKr bd r kd) {n v : Int32} {i : Nat} {sv : Int32 × Int32} (hi : (kS kd)[i]? = some sv) (hn : sv.1 = n) : isKr bd (upd r (35 + i) v) (kd.1, kF kd, (kS kd).set i (n, v), kX kd) := by
  obtain ⟨a0, a1, a2, a3, a4, ⟨b1, b2, b3⟩, ⟨c1, c2, c3⟩, d1, d2, d3⟩ := h
  have hil := get_lt hi
  have e : ∀ q, ¬ q = 35 + i → upd r (35 + i) v q = r q := fun q h2 => pk_un h2
  refine ⟨(e 0 (by omega)).trans a0, (e 1 (by omega)).trans a1, (e 2 (by omega)).trans a2, (e 3 (by omega)).trans a3, (e 4 (by omega)).trans a4, ⟨(e 5 (by omega)).trans b1, b2, fun j f hj => ?_⟩, ⟨?_, ?_, fun j f hj => ?_⟩, (e 39 (by omega)).trans d1, d2, fun j f hj => ?_⟩
  · have : j < (kF kd).length := get_lt hj
    have h9 := b3 j f hj
    rw [e _ (by omega), e _ (by omega), e _ (by omega)]
    exact h9
  · rw [e 30 (by omega)]
    show _ = nI ((kS kd).set i (n, v)).length
    rw [List.length_set]; exact c1
  · show ((kS kd).set i (n, v)).length ≤ 4
    rw [List.length_set]; exact c2
  · rcases set_get hj with ⟨h1, h2⟩ | ⟨h1, h2⟩
    · subst h1; subst h2
      refine ⟨?_, pk_us⟩
      rw [e _ (by omega), (c3 j sv hi).1]
      exact hn
    · obtain ⟨f1, f2⟩ := c3 j f h2
      have := get_lt h2
      exact ⟨by rw [e _ (by omega)]; exact f1, by rw [e _ (by omega)]; exact f2⟩
  · have : j < (kX kd).length := get_lt hj
    have h9 := d3 j f hj
    rw [e _ (by omega), e _ (by omega)]
    exact h9
end
section
variable {G : am_G} {ρ : mm_F} {C : Ctx} {s : RSt} {c dp : Nat} {d : Nat} {μ : mm_S}
theorem bG_eq {μ μ' : mm_S} (h : mA μ' 15 = mA μ 15) {t : Term} {x : Int32} (hb : bG μ t x) : bG μ' t x := by
  unfold bG at hb ⊢
  rw [h]
  exact hb
theorem srt_wr {m : Nat} {x : Int32} : (∀ u, fUp s.2.1 (cK C c) (nI m) = some u → wrv C s c (nI m) x = some (s.1, s.2.1, upd s.2.2.1 (ixV c (nI m)) x, s.2.2.2)) ∧ (∀ u, fUp s.2.1 (cK C c) (nI m) = none → sUp s.2.1 (cK C c) (nI m) = some u → wrv C s c (nI m) x = some (s.1, stS s.2.1 u (nI m) x, s.2.2)) ∧ (fUp s.2.1 (cK C c) (nI m) = none → sUp s.2.1 (cK C c) (nI m) = none → (cH C (ixV c (nI m)) = 0 → wrv C s c (nI m) x = none) ∧ (¬ cH C (ixV c (nI m)) = 0 → wrv C s c (nI m) x = some (s.1, s.2.1, s.2.2.1, upd s.2.2.2.1 (ixV c (nI m)) x, s.2.2.2.2))) := by
  unfold wrv
  refine ⟨fun u h => ?_, fun u h1 h2 => ?_, fun h1 h2 => ⟨fun h => ?_, fun h => ?_⟩⟩
  · rw [show fUp s.2.1 (C.2.2.1 c) (nI m) = some u from h]
  · rw [show fUp s.2.1 (C.2.2.1 c) (nI m) = none from h1, show sUp s.2.1 (C.2.2.1 c) (nI m) = some u from h2]
  · rw [show fUp s.2.1 (C.2.2.1 c) (nI m) = none from h1, show sUp s.2.1 (C.2.2.1 c) (nI m) = none from h2]
    exact if_pos h
  · rw [show fUp s.2.1 (C.2.2.1 c) (nI m) = none from h1, show sUp s.2.1 (C.2.2.1 c) (nI m) = none from h2]
    exact if_neg h
/-- a name is given the number -/
theorem M_set (H : MR C s μ) (hc : c < cN C) (hl : cL C c = true) {m : Nat} (hm : m < 40) {x : Int32} (h52 : mI μ 52 = x) {Q : Int32 → mm_S → Prop} (hy : ∀ s2, wrv C s c (nI m) x = some s2 → ∀ μ', MR C s2 μ' → fr [23, 36, 37] μ μ' → (∀ q, 769 ≤ q → mA μ' 23 q = mA μ 23 q) → Q 1 μ') (hn : wrv C s c (nI m) x = none → ∀ μ', μ' = mm_sI μ 39 1001 → Q 0 μ') : W_X6_sets G ρ (d + 4) (nI c) (nI m) μ Q := by
  obtain ⟨r1, r2, r3⟩ := srt_rd (C := C) (s := s) (c := c) (m := m)
  obtain ⟨w1, w2, w3⟩ := srt_wr (C := C) (s := s) (c := c) (m := m) (x := x)
  have hc40 := H.2.2.1.2.1
  have hix : ixV c (nI m) = 40 * c + m := ixV_n rfl hm
  refine W_X6_sets_f (M_sort H hc hl hm ?_)
  rw [M_i40, nI_clamp (show 40 * c + m < 2 ^ 31 by omega), h52]
  have H' := H
  obtain ⟨⟨g1, g0⟩, ⟨g2, g3, g4⟩, g5⟩ := H
  cases hf : fUp s.2.1 (cK C c) (nI m) with
  | some u =>
    obtain ⟨e1, e2⟩ := r1 u hf
    rw [e1]
    refine ⟨fun _ => ⟨fun h9 => absurd rfl h9, fun _ => ⟨vp_in_nI (by omega) (by decide), fun μ1 e => ?_⟩⟩, fun h9 => absurd h9 (by decide)⟩
    subst e
    refine hy _ (w1 u hf) _ ⟨⟨g1.ext (fun f _ => mA_o (by decide)) fun t x hb => bG_eq (funext fun q => mA_o (by decide)) hb, g0⟩, ⟨fun q hq => ?_, fun q hq => (mA_o (by decide)).trans (g3 q hq), fun q hq => (mA_o (by decide)).trans (g4 q hq)⟩, ?_⟩ (fr.refl.sA (by decide)) fun q _ => mA_o (by decide)
    · show mA (mm_sA μ 36 (40 * c + m) x) 36 q = upd s.2.2.1 (ixV c (nI m)) x q
      rw [hix]
      by_cases hq2 : q = 40 * c + m
      · rw [hq2, mA_s, pk_us]
      · rw [mA_i hq2, pk_un hq2]; exact g2 q hq
    · exact g5
  | none =>
    cases hs : sUp s.2.1 (cK C c) (nI m) with
    | some u =>
      obtain ⟨e1, e2⟩ := r2 u hf hs
      rw [e1]
      refine ⟨fun _ => ⟨fun _ => ⟨fun _ => ?_, fun h9 => absurd h9 (by decide)⟩, fun h9 => absurd h9 (by decide)⟩, fun h9 => absurd h9 (by decide)⟩
      refine M_fxAt (d := d + 1) H' hc hl hs (K := fun v4 v8 μ7 => W_X6_set G ρ (d + 3) 0 v4 (35 + v8) (mI μ7 52) μ7 (fun μ9 => Q 1 μ9)) fun ku i sv u1 hi s1 hi4 hu12 hg => ?_
      refine S_set (w := 0) rfl rfl (show (35 : Int32) + nI i = nI (35 + i) from nI_add 35 i) (by decide) hu12 (by omega) ?_
      rw [h52]
      have hsv : sv.1 = nI m := by
        obtain ⟨y, y1, y2⟩ := ixf_some hi
        rw [s1] at y1
        cases y1
        exact y2
      have hr : ro 0 u μ (mm_sA μ 23 (769 * 0 + 1 + 64 * u + (35 + i)) x) := ro.refl.set (by omega)
      have hb : ∀ t y, bG μ t y → bG (mm_sA μ 23 (769 * 0 + 1 + 64 * u + (35 + i)) x) t y := fun t y hb => bG_eq (funext fun q => mA_o (by decide)) hb
      have hK : isKd (bG μ) (mm_sA μ 23 (769 * 0 + 1 + 64 * u + (35 + i)) x) 0 u (ku.1, kF ku, (kS ku).set i (nI m, x), kX ku) := by
        show isKr _ _ _
        rw [wd_same]
        exact (g1.2.2 u ku u1).setV s1 hsv
      have hW := g1.row (get_lt u1) hr hK
      have eS : stS s.2.1 u (nI m) x = s.2.1.set u (ku.1, kF ku, (kS ku).set i (nI m, x), kX ku) := stS_of u1 hi
      refine hy _ (w2 u hf hs) _ ⟨⟨?_, ?_⟩, ⟨fun q hq => (mA_o (by decide)).trans (g2 q hq), fun q hq => (mA_o (by decide)).trans (g3 q hq), fun q hq => (mA_o (by decide)).trans (g4 q hq)⟩, ?_⟩ (fr.refl.sA (by decide)) fun q hq => mA_i (by omega)
      · show isW _ _ 0 (stS s.2.1 u (nI m) x)
        rw [eS]
        exact hW.ext (fun _ _ => rfl) hb
      · exact wdI_eqS g0 stS_eqS
      · obtain ⟨⟨k1, k2, k3, k4⟩, k5⟩ := g5
        refine ⟨⟨k1, k2, k3, fun c' hc' hl' => ⟨(k4 c' hc' hl').1, ?_⟩⟩, k5⟩
        show _ < (stS s.2.1 u (nI m) x).length
        rw [eS, List.length_set]
        exact (k4 c' hc' hl').2
    | none =>
      obtain ⟨q1, q2⟩ := r3 hf hs
      by_cases h0 : cH C (ixV c (nI m)) = 0
      · obtain ⟨e1, e2⟩ := q1 h0
        rw [e1]
        exact ⟨fun h9 => absurd rfl h9, fun _ => W_X6_fails_f fun μ1 e => ⟨rfl, hn ((w3 hf hs).1 h0) μ1 e⟩⟩
      · obtain ⟨e1, e2⟩ := q2 h0
        rw [e1]
        refine ⟨fun _ => ⟨fun _ => ⟨fun h9 => absurd rfl h9, fun _ => ⟨vp_in_nI (by omega) (by decide), fun μ1 e => ?_⟩⟩, fun h9 => absurd h9 (by decide)⟩, fun h9 => absurd h9 (by decide)⟩
        subst e
        refine hy _ ((w3 hf hs).2 h0) _ ⟨⟨g1.ext (fun f _ => mA_o (by decide)) fun t x hb => bG_eq (funext fun q => mA_o (by decide)) hb, g0⟩, ⟨fun q hq => (mA_o (by decide)).trans (g2 q hq), fun q hq => ?_, fun q hq => (mA_o (by decide)).trans (g4 q hq)⟩, ?_⟩ (fr.refl.sA (by decide)) fun q _ => mA_o (by decide)
        · show mA (mm_sA μ 37 (40 * c + m) x) 37 q = upd s.2.2.2.1 (ixV c (nI m)) x q
          rw [hix]
          by_cases hq2 : q = 40 * c + m
          · rw [hq2, mA_s, pk_us]
          · rw [mA_i hq2, pk_un hq2]; exact g3 q hq
        · exact g5
end
