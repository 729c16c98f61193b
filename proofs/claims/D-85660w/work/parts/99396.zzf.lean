set_option maxRecDepth 100000
section
variable {G : am_G} {ρ : mm_F} {C : Ctx} {g : Nat}
/-- what is asked behind a statement of the model -/
def PmQ (G : am_G) (ρ : mm_F) (D dp : Nat) (lg : Bool) (x4 : Int32) (Q : Int32 → mm_S → Prop) (v3 : Int32) (μ2 : mm_S) : Prop := (¬ v3 = 3 → ((v3 = 0 → W_X6_in G ρ D x4 4 μ2 (fun v5 μ4 => B_X6_goes_3 G ρ (D + 1) (nI dp) (if lg = true then 1 else 0) v5 μ4 Q)) ∧ (¬ v3 = 0 → Q v3 μ2))) ∧ (v3 = 3 → W_X6_in G ρ D x4 4 μ2 (fun v7 μ6 => (∀ μ8 : mm_S, μ8 = mm_sI μ6 55 v7 → (((v3 = 0 → W_X6_in G ρ D x4 4 μ8 (fun v10 μ9 => B_X6_goes_3 G ρ (D + 1) (nI dp) (if lg = true then 1 else 0) v10 μ9 Q)) ∧ (¬ v3 = 0 → Q v3 μ8))))))
theorem PmQ.end_ {D dp : Nat} {lg : Bool} {x4 : Int32} {Q : Int32 → mm_S → Prop} {v3 : Int32} {μ2 : mm_S} (h0 : ¬ v3 = 0) (h3 : ¬ v3 = 3) (h : Q v3 μ2) : PmQ G ρ D dp lg x4 Q v3 μ2 := ⟨fun _ => ⟨fun h9 => absurd h9 h0, fun _ => h⟩, fun h9 => absurd h9 h3⟩
/-- a creature that lives, as the model has it -/
theorem M_living {d : Nat} {s : RSt} {μ : mm_S} (H : MR C s μ) {x : Int32} {Q : Int32 → mm_S → Prop} (hy : ∀ c, liv C x = some c → c < cN C → cL C c = true → x = nI c → Q 1 μ) (hn : liv C x = none → Q 0 μ) : W_X6_isLiving G ρ (d + 1) x μ Q := by
  obtain ⟨h5, h6, h7, h8⟩ := H.2.2.1
  unfold liv at hy hn
  refine W_X6_isLiving_f (S_isIn ?_)
  rw [h5]
  have key : (0 ≤ x ∧ x ≤ nI (cN C) - 1) ↔ (0 ≤ x ∧ x < nI (cN C)) := by
    cases hc : cN C with
    | zero =>
      refine ⟨fun h => absurd (Int32.le_trans h.1 h.2) (by decide), fun h => absurd h.2 (Int32.not_lt.mpr h.1)⟩
    | succ n =>
      rw [hc] at h6
      rw [nI_pred]
      refine ⟨fun h => ⟨h.1, Int32.lt_of_le_of_lt h.2 (nI_lt (by omega) (by omega))⟩, fun h => ⟨h.1, ?_⟩⟩
      obtain ⟨j, j1, j2⟩ := nI_of (fun h9 => absurd h.1 (Int32.not_le.mpr h9))
      rw [j2] at h ⊢
      have := (nI_ltI j1 (by omega)).mp h.2
      exact nI_le (by omega) (by omega)
  refine ⟨fun h => ⟨fun h9 => absurd h9 (by decide), fun _ => ?_⟩, fun h => ⟨fun _ => ?_, fun h9 => absurd rfl h9⟩⟩
  · have h' := key.mp h
    rw [if_pos h'] at hy hn
    obtain ⟨j, j1, j2⟩ := nI_of (fun h9 => absurd h'.1 (Int32.not_le.mpr h9))
    have hj : j < cN C := by
      rw [j2] at h'
      exact (nI_ltI j1 (by omega)).mp h'.2
    have hxc : x.toNatClampNeg = j := by rw [j2, nI_clamp j1]
    rw [hxc] at hy hn ⊢
    rw [j2]
    refine ⟨vp_in_nI (by omega) (by decide), fun he => ?_, fun hne => ?_⟩
    · rw [h7 j hj] at he
      by_cases hl : cL C j = true
      · rw [if_pos hl] at he; exact absurd he (by decide)
      · rw [if_neg hl] at hn; exact hn rfl
    · rw [h7 j hj] at hne
      by_cases hl : cL C j = true
      · rw [if_pos hl] at hy; exact hy j rfl hj hl j2
      · rw [if_neg hl] at hne; exact absurd rfl hne
  · have h' : ¬ (0 ≤ x ∧ x < nI (cN C)) := fun h9 => h (key.mpr h9)
    rw [if_neg h'] at hn
    exact hn rfl
/-- a run of the model follows the pure one: one statement -/
theorem M_goS (ihs : ∀ g', g' + 1 = g → GmP G ρ C g') : GmP G ρ C g := by
  intro lg dp c n ab v last b s μ txt y l at_ d rr t0 Q H hg hc hl hF hA h47 ht hab hdp h54 h42 htx hB hok hrr hd hQ
  obtain ⟨d', rfl⟩ : ∃ d', d = d' + 6 + 1 + 1 := ⟨d - 8, by omega⟩
  have hvd : vp_in (nI dp) 21 := vp_in_nI (by omega) (by decide)
  have hdc : (nI dp).toNatClampNeg = dp := nI_clamp (by omega)
  cases b with
  | thrown =>
    have hy : y = -1 := hB
    rw [go_end] at hQ
    rw [hy]
    exact B_X6_goes_3_f ⟨fun _ => hQ μ H RMf.refl hF.2.2 h54 h42, fun h9 => absurd rfl h9⟩
  | add st b =>
    obtain ⟨k, hyk, hkm, hT, hb⟩ := isB_inv st b 1001 y hB
    have hokb := okB_tl st b rr hok
    rw [hyk, gI_n (by omega)]
    refine B_X6_goes_3_f ⟨fun h9 => absurd h9 (nI_m1 (by omega)), fun _ => ?_⟩
    rw [H.2.2.2.1.1]
    refine ⟨fun hne μ1 e1 => ?_, fun he μ1 e1 => ?_⟩
    · have h500 := H.2.2.2.1.2
      have h0 : ¬ s.1 = 0 := fun e => hne (by rw [e]; rfl)
      obtain ⟨g', rfl⟩ : ∃ g', g = g' + 1 := ⟨g - 1, by omega⟩
      have ih := ihs g' rfl
      have f1 : fr [41] μ μ1 := by rw [e1]; exact fr.refl.sI (by decide)
      have r1 : RMf dp μ μ1 := RMf.of f1 (by decide) (by decide)
      have H1 : MR C (pay s) μ1 := by
        obtain ⟨a1, a2, a3, a4, a5⟩ := H
        subst e1
        refine ⟨⟨a1.1.ext (fun _ _ => rfl) fun t x hb => bG_eq rfl hb, a1.2⟩, a2, a3, ⟨?_, by show s.1 - 1 ≤ 500; omega⟩, a5⟩
        rw [mI_s, nI_1]
        show _ = nI (500 - (s.1 - 1))
        congr 1
        omega
      have hF1 : FM μ1 dp c v last := hF.rm r1 (by rw [f1.eA (by decide)]; exact hF.2.2)
      have hA1 : FA μ1 dp n l := hA.rm r1
      have h471 : mA μ1 47 dp = nI at_ := by rw [f1.eA (by decide)]; exact h47
      have h541 : mI μ1 54 = 0 := by rw [f1.eI (by decide)]; exact h54
      have h421 : mI μ1 42 = 0 := by rw [f1.eI (by decide)]; exact h42
      have e15 : mA μ1 15 = mA μ 15 := f1.eA (by decide)
      have hpg : (pay s).1 ≤ g' := by show s.1 - 1 ≤ g'; omega
      have hQ1 := hQ.up r1
      rw [← e15] at hQ1 hT hb
      clear hQ e1 f1 r1 hF hA h47 h54 h42 H hB
      have step : ∀ (last2 : Int32) (s2 : RSt) (μ2 : mm_S), MR C s2 μ2 → s2.1 ≤ g' → RMf dp μ1 μ2 → mA μ2 45 dp = last2 → mI μ2 54 = 0 → mI μ2 42 = 0 → GmQ C dp μ1 (mA μ1 15) txt Q (go C g' lg dp c n ab v last2 b s2) → PmQ G ρ (d' + 6 + 1) dp lg (nI (1200 * txt + k)) Q 0 μ2 := fun last2 s2 μ2 H2 hg2 r2 h45 h542 h422 hQ2 => by
        have e152 : mA μ2 15 = mA μ1 15 := r2.1.eA (by decide)
        refine ⟨fun _ => ⟨fun _ => M_in rfl rfl (by omega) (by omega) (by decide) ?_, fun h9 => absurd rfl h9⟩, fun h9 => absurd h9 (by decide)⟩
        refine ih lg dp c n ab v last2 b s2 μ2 txt _ l at_ (d' + 6 + 1 + 1) rr t0 Q H2 hg2 hc hl (hF1.rm r2 h45) (hA1.rm r2) ((r2.2.2.1 dp (Nat.le_refl _)).2.2.2.1.trans h471) ht hab hdp h542 h422 htx (by rw [e152]; exact hb) hokb hrr hd ?_
        rw [e152]
        exact hQ2.up r2
      have P2 : ∀ μ', Q 2 μ' → PmQ G ρ (d' + 6 + 1) dp lg (nI (1200 * txt + k)) Q 2 μ' := fun μ' h => PmQ.end_ (by decide) (by decide) h
      -- a number, worked out
      have num : ∀ (e : Term) (i : Nat) {Q1 : Int32 → mm_S → Prop}, hm e ≤ 520 → i < 1100 → isE (mA μ1 15) (1200 * txt) 0 e i → (∀ x μ2, ev (rdv C (pay s) c) v last e = .inr x → EvF 0 μ1 μ2 → mI μ2 54 = 0 → mI μ2 52 = x → Q1 1 μ2) → (∀ q μ2, ev (rdv C (pay s) c) v last e = .inl q → EvF 0 μ1 μ2 → mI μ2 54 = 0 → mI μ2 39 = q → Q1 0 μ2) → W_X6_eval G ρ (d' + 6) (nI (1200 * txt + i)) (nI dp) μ1 Q1 := fun e i Q1 he hi hE hy hn => (M_ev (G := G) (ρ := ρ) (D := d' + 5 + 1) hc hl hdp htx e i hE hi (by omega)).eval rfl H1 hF1 (P := 0) h541 (by omega) hy hn
      have ev42 : ∀ {μ2 : mm_S}, EvF 0 μ1 μ2 → mI μ2 42 = 0 := fun gE => (gE.1.eI (by decide)).trans h421
      have ev45 : ∀ {μ2 : mm_S}, EvF 0 μ1 μ2 → mA μ2 45 dp = last := fun gE => by rw [gE.1.eA (by decide)]; exact hF1.2.2
      have evF : ∀ {q : Int32} {bb : Term} {last2 : Int32} {μ2 : mm_S}, GmQ C dp μ1 (mA μ1 15) txt Q ((2, q, bb), last2, pay s) → EvF 0 μ1 μ2 → mI μ2 54 = 0 → mI μ2 39 = q → Q 2 μ2 := fun h gE a b => h _ (H1.ev gE) (RMf.ev gE) a (ev42 gE) b
      show W_X6_does G ρ (d' + 6 + 1) (nI (1200 * txt + k)) (nI dp) (if lg = true then 1 else 0) μ1 (PmQ G ρ (d' + 6 + 1) dp lg (nI (1200 * txt + k)) Q)
      refine W_X6_does_f (M_of (f := 0) rfl rfl (by omega) ?_)
      match st, hT, hok, hQ1 with
      | .elem (.index m) e, ⟨n0, n1, hm, i, hi, n2, hE⟩, hok, hQ1 =>
        rw [show mA μ1 15 (5 * (1200 * txt + k) + 0) = 20 from n0]
        rw [go_set h0] at hQ1
        refine ⟨fun _ => ?_, fun h9 => absurd h9 (by decide), fun h9 => absurd h9 (by decide), fun h9 => absurd h9 (by decide), fun h9 => absurd h9 (by decide), fun h9 => absurd h9 (by decide), fun h9 => absurd h9 (by decide), fun h9 => absurd h9 (by decide)⟩
        refine M_in rfl rfl (by omega) (by omega) (by decide) ?_
        rw [n2, gI_n (by omega)]
        refine num e i hok.1 (by omega) hE (fun x μ2 ex gE a54 a52 => ⟨fun h9 => absurd h9 (by decide), fun _ => ?_⟩) fun q μ2 ex gE a54 a39 => ⟨fun _ => ?_, fun h9 => absurd rfl h9⟩
        · rw [ex] at hQ1
          dsimp only at hQ1
          have e152 : mA μ2 15 = mA μ1 15 := gE.1.eA (by decide)
          rw [hdc]
          refine ⟨hvd, M_of (f := 1) rfl rfl (by omega) ?_⟩
          rw [show mA μ2 15 (5 * (1200 * txt + k) + 1) = nI m from by rw [e152]; exact n1, (hF1.ev gE).1]
          refine M_set (d := d' + 2) (H1.ev gE) hc hl hm a52 (fun s2 hs2 μ3 H3 g3 w3 => ⟨fun h9 => absurd h9 (by decide), fun _ => ?_⟩) fun hno μ3 e3 => ⟨fun _ => ?_, fun h9 => absurd rfl h9⟩
          · rw [hs2] at hQ1
            have r3 : RMf dp μ2 μ3 := ⟨g3.more (by decide), w3, fun i _ => ⟨by rw [g3.eA (by decide)], by rw [g3.eA (by decide)], by rw [g3.eA (by decide)], by rw [g3.eA (by decide)], by rw [g3.eA (by decide)]⟩, fun i _ => by rw [g3.eA (by decide)], fun q _ => ⟨by rw [g3.eA (by decide)], by rw [g3.eA (by decide)], by rw [g3.eA (by decide)]⟩⟩
            exact step last s2 μ3 H3 (by rw [wrv_fuel hs2]; exact hpg) ((RMf.ev gE).trans r3) (by rw [g3.eA (by decide)]; exact ev45 gE) (by rw [g3.eI (by decide)]; exact a54) (by rw [g3.eI (by decide)]; exact ev42 gE) hQ1
          · rw [hno] at hQ1
            exact P2 μ3 (M_fail (H1.ev gE) a54 (ev42 gE) (hQ1.up (RMf.ev gE)) e3)
        · rw [ex] at hQ1
          exact P2 μ2 (evF hQ1 gE a54 a39)
      | .length e, ⟨n0, i, hi, n1, hE⟩, hok, hQ1 =>
        rw [show mA μ1 15 (5 * (1200 * txt + k) + 0) = 21 from n0]
        rw [go_give h0] at hQ1
        refine ⟨fun h9 => absurd h9 (by decide), fun _ => ?_, fun h9 => absurd h9 (by decide), fun h9 => absurd h9 (by decide), fun h9 => absurd h9 (by decide), fun h9 => absurd h9 (by decide), fun h9 => absurd h9 (by decide), fun h9 => absurd h9 (by decide)⟩
        refine M_in rfl rfl (by omega) (by omega) (by decide) ?_
        rw [n1, gI_n (by omega)]
        refine num e i hok.1 (by omega) hE (fun x μ2 ex gE a54 a52 => ⟨fun _ => ⟨fun _ μ3 e3 => ⟨fun h9 => absurd rfl h9, fun _ => ?_⟩, fun h9 => absurd h9 (by decide)⟩, fun h9 => absurd h9 (by decide)⟩) fun q μ2 ex gE a54 a39 => ⟨fun h9 => absurd rfl h9, fun _ => ?_⟩
        · rw [ex] at hQ1
          subst e3
          have f3 : fr [40] μ2 (mm_sI μ2 40 (mI μ2 52)) := fr.refl.sI (by decide)
          exact PmQ.end_ (by decide) (by decide) (hQ1 _ ((H1.ev gE).fr f3 (by decide)) ((RMf.ev gE).trans (RMf.of f3 (by decide) (by decide))) (show mA μ2 45 dp = last from ev45 gE) a54 (show mI μ2 42 = 0 from ev42 gE) (by rw [mI_s, a52]))
        · rw [ex] at hQ1
          exact P2 μ2 (evF hQ1 gE a54 a39)
      | .sum e, ⟨n0, i, hi, n1, hE⟩, hok, hQ1 =>
        rw [show mA μ1 15 (5 * (1200 * txt + k) + 0) = 22 from n0]
        rw [go_fail h0] at hQ1
        refine ⟨fun h9 => absurd h9 (by decide), fun h9 => absurd h9 (by decide), fun _ => ?_, fun h9 => absurd h9 (by decide), fun h9 => absurd h9 (by decide), fun h9 => absurd h9 (by decide), fun h9 => absurd h9 (by decide), fun h9 => absurd h9 (by decide)⟩
        refine M_in rfl rfl (by omega) (by omega) (by decide) ?_
        rw [n1, gI_n (by omega)]
        refine num e i hok.1 (by omega) hE (fun x μ2 ex gE a54 a52 => ⟨fun _ => ⟨fun h9 => absurd rfl h9, fun _ μ3 e3 μ4 e4 => ⟨fun _ => ?_, fun h9 => absurd h9 (by decide)⟩⟩, fun h9 => absurd h9 (by decide)⟩) fun q μ2 ex gE a54 a39 => ⟨fun h9 => absurd rfl h9, fun _ => ?_⟩
        · rw [ex] at hQ1
          subst e4
          subst e3
          have f3 : fr [39, 40] μ2 (mm_sI (mm_sI μ2 39 (mI μ2 52)) 40 (mI (mm_sI μ2 39 (mI μ2 52)) 52)) := (fr.refl.sI (by decide)).sI (by decide)
          exact P2 _ (hQ1 _ ((H1.ev gE).fr f3 (by decide)) ((RMf.ev gE).trans (RMf.of f3 (by decide) (by decide))) a54 (show mI μ2 42 = 0 from ev42 gE) (by rw [mI_o (by decide), mI_s, a52]))
        · rw [ex] at hQ1
          exact P2 μ2 (evF hQ1 gE a54 a39)
      | .null, n0, hok, hQ1 =>
        rw [show mA μ1 15 (5 * (1200 * txt + k) + 0) = 23 from n0]
        rw [go_up h0] at hQ1
        refine ⟨fun h9 => absurd h9 (by decide), fun h9 => absurd h9 (by decide), fun h9 => absurd h9 (by decide), fun _ => ?_, fun h9 => absurd h9 (by decide), fun h9 => absurd h9 (by decide), fun h9 => absurd h9 (by decide), fun h9 => absurd h9 (by decide)⟩
        subst hab
        exact M_up (d := d' + 1) ih H1 hpg h541 h421 hdp hc hl hF1 hA1 h471 ht step P2 (by omega) hQ1
      | .arg a, ⟨n0, n1, ha⟩, hok, hQ1 =>
        rw [show mA μ1 15 (5 * (1200 * txt + k) + 0) = 24 from n0]
        rw [go_do h0] at hQ1
        refine ⟨fun h9 => absurd h9 (by decide), fun h9 => absurd h9 (by decide), fun h9 => absurd h9 (by decide), fun h9 => absurd h9 (by decide), fun _ => ?_, fun h9 => absurd h9 (by decide), fun h9 => absurd h9 (by decide), fun h9 => absurd h9 (by decide)⟩
        refine W_X6_calls_f ⟨hvd, M_of (f := 1) rfl rfl (by omega) (M_of (f := 0) rfl rfl (by omega) ?_)⟩
        rw [show mA μ1 15 (5 * (1200 * txt + k) + 0) = 24 from n0, show mA μ1 15 (5 * (1200 * txt + k) + 1) = nI a from n1, hdc, hF1.1]
        refine ⟨fun _ => ⟨vp_in_nI (by have := H1.2.2.1.2.1; omega) (by decide), ?_⟩, fun h9 => absurd h9 (by decide)⟩
        exact M_goD (d := d' + 1) ih H1 hpg h541 h421 hdp step P2 hc hl (by omega) hQ1
      | .mul (.index ln) (.index a), ⟨n0, n1, hl40, n2, ha⟩, hok, hQ1 =>
        rw [show mA μ1 15 (5 * (1200 * txt + k) + 0) = 25 from n0]
        rw [go_send h0] at hQ1
        refine ⟨fun h9 => absurd h9 (by decide), fun h9 => absurd h9 (by decide), fun h9 => absurd h9 (by decide), fun h9 => absurd h9 (by decide), fun h9 => absurd h9 (by decide), fun _ => ?_, fun h9 => absurd h9 (by decide), fun h9 => absurd h9 (by decide)⟩
        refine W_X6_calls_f ⟨hvd, M_of (f := 1) rfl rfl (by omega) (M_of (f := 0) rfl rfl (by omega) ?_)⟩
        rw [show mA μ1 15 (5 * (1200 * txt + k) + 0) = 25 from n0, show mA μ1 15 (5 * (1200 * txt + k) + 1) = nI ln from n1, hdc, hF1.1]
        refine ⟨fun h9 => absurd rfl h9, fun _ => M_sort (d := d' + 2) H1 hc hl hl40 (M_get (d := d' + 3) H1 hc hl hl40 (K := fun v14 μ13 => B_X6_calls_131 G ρ (d' + 6) (nI (1200 * txt + k)) (nI dp) v14 μ13 (fun v30 μ29 => ((v30 = 0 → PmQ G ρ (d' + 6 + 1) dp lg (nI (1200 * txt + k)) Q 2 μ29) ∧ (¬ v30 = 0 → PmQ G ρ (d' + 6 + 1) dp lg (nI (1200 * txt + k)) Q 0 μ29)))) (fun x ex => ?_) fun hno => ?_)⟩
        · rw [ex] at hQ1
          dsimp only at hQ1
          refine B_X6_calls_131_f (M_living H1 (fun c' e1 e2 e3 e4 => ⟨fun _ => M_of (f := 2) rfl rfl (by omega) ?_, fun h9 => absurd h9 (by decide)⟩) fun hno => ⟨fun h9 => absurd rfl h9, fun _ => W_X6_fails_f fun μ3 e3 => ⟨rfl, fun _ => P2 μ3 ?_, fun h9 => absurd rfl h9⟩⟩)
          · rw [e1] at hQ1
            rw [show mA μ1 15 (5 * (1200 * txt + k) + 2) = nI a from n2, e4]
            refine ⟨vp_in_nI (by have := H1.2.2.1.2.1; omega) (by decide), ?_⟩
            exact M_goD (d := d' + 1) ih H1 hpg h541 h421 hdp step P2 e2 e3 (by omega) hQ1
          · rw [hno] at hQ1
            exact M_fail H1 h541 h421 hQ1 e3
        · rw [hno] at hQ1
          exact W_X6_fails_f fun μ3 e3 => ⟨rfl, fun _ => P2 μ3 (M_fail H1 h541 h421 hQ1 e3), fun h9 => absurd rfl h9⟩
      | .result, n0, hok, hQ1 =>
        rw [show mA μ1 15 (5 * (1200 * txt + k) + 0) = 26 from n0]
        rw [go_rest h0] at hQ1
        refine ⟨fun h9 => absurd h9 (by decide), fun h9 => absurd h9 (by decide), fun h9 => absurd h9 (by decide), fun h9 => absurd h9 (by decide), fun h9 => absurd h9 (by decide), fun h9 => absurd h9 (by decide), fun _ => ?_, fun h9 => absurd h9 (by decide)⟩
        cases lg with
        | false => exact ⟨fun _ => step last (pay s) μ1 H1 hpg RMf.refl hF1.2.2 h541 h421 hQ1, fun h9 => absurd rfl h9⟩
        | true =>
          rw [if_pos rfl] at hQ1
          refine ⟨fun h9 => absurd h9 (by decide), fun _ => ⟨fun h9 => absurd rfl h9, fun _ => M_in rfl rfl (by omega) (by omega) (by decide) fun μ8 e8 => ⟨fun h9 => absurd h9 (by decide), fun _ => ?_⟩⟩⟩
          subst e8
          have f8 : fr [55] μ1 (mm_sI μ1 55 (gI txt (nf (mA μ1 15) (1200 * txt) k 4))) := fr.refl.sI (by decide)
          exact hQ1 _ k (by omega) n0 hb mI_s (H1.fr f8 (by decide)) (RMf.of f8 (by decide) (by decide)) hF1.2.2 h541 h421
      | .sub e (.sub yy z), ⟨n0, ⟨i, hi, n1, hE⟩, hy2, hz2⟩, hok, hQ1 =>
        have hr1 : 1 ≤ rr := hok.2.1
        rw [show mA μ1 15 (5 * (1200 * txt + k) + 0) = 27 from n0]
        rw [go_if h0] at hQ1
        refine ⟨fun h9 => absurd h9 (by decide), fun h9 => absurd h9 (by decide), fun h9 => absurd h9 (by decide), fun h9 => absurd h9 (by decide), fun h9 => absurd h9 (by decide), fun h9 => absurd h9 (by decide), fun h9 => absurd h9 (by decide), fun _ => ?_⟩
        refine M_in rfl rfl (by omega) (by omega) (by decide) ?_
        rw [n1, gI_n (by omega)]
        refine num e i hok.1 (by omega) hE (fun x μ2 ex gE a54 a52 => ⟨fun _ => ?_, fun h9 => absurd h9 (by decide)⟩) fun q μ2 ex gE a54 a39 => ⟨fun h9 => absurd rfl h9, fun _ => ?_⟩
        · rw [ex] at hQ1
          dsimp only at hQ1
          have e152 : mA μ2 15 = mA μ1 15 := gE.1.eA (by decide)
          have blk : ∀ {t : Term} {yb : Int32}, isB (mA μ1 15) (1200 * txt) 0 t k yb → okB t (rr - 1) → GmQ C dp μ1 (mA μ1 15) txt Q (goI (fun l2 s2 => go C g' lg dp c n ab v l2 b s2) (go C g' false dp c n ab v last t (pay s))) → W_X6_goes G ρ (d' + 5 + 1) (gI txt yb) (nI dp) 0 μ2 (PmQ G ρ (d' + 6 + 1) dp lg (nI (1200 * txt + k)) Q) := fun {t yb} hbk hokt hQt => by
            refine W_X6_goes_f ?_
            refine ih false dp c n ab v last t (pay s) μ2 txt yb l at_ (d' + 5 + 1) (rr - 1) t0 _ (H1.ev gE) hpg hc hl (hF1.ev gE) (hA1.rm (RMf.ev gE)) (by rw [gE.1.eA (by decide)]; exact h471) ht hab hdp a54 (ev42 gE) htx (by rw [e152]; exact isB.up _ _ _ _ (by omega) hbk) hokt (by omega) (by omega) ?_
            have hfu := go_fuel (C := C) g' false dp c n ab v last t (pay s)
            have h4 := go_no4 (C := C) g' dp c n ab v last t (pay s)
            revert hQt hfu h4
            generalize go C g' false dp c n ab v last t (pay s) = R
            intro hQt hfu h4
            obtain ⟨⟨q, xx, b'⟩, lx, s'⟩ := R
            have rE : RMf dp μ1 μ2 := RMf.ev gE
            match q, hQt, h4 with
            | 0, hQt, _ => exact fun μ' a1 a2 a3 a4 a5 => step lx s' μ' a1 (Nat.le_trans hfu hpg) (rE.trans a2) a3 a4 a5 hQt
            | 1, hQt, _ => exact fun μ' a1 a2 a3 a4 a5 a6 => PmQ.end_ (by decide) (by decide) (hQt μ' a1 (rE.trans a2) a3 a4 a5 a6)
            | 2, hQt, _ => exact fun μ' a1 a2 a3 a4 a5 => P2 μ' (hQt μ' a1 (rE.trans a2) a3 a4 a5)
            | 3, hQt, _ => exact fun μ' a1 a2 a3 a4 => P2 μ' (hQt μ' a1 (rE.trans a2) a3 a4)
            | 4, _, h4 => exact absurd rfl h4
            | _ + 5, _, _ => exact trivial
          rw [a52]
          refine ⟨fun he => M_in rfl rfl (by omega) (by omega) (by decide) ?_, fun hne => M_in rfl rfl (by omega) (by omega) (by decide) ?_⟩
          · rw [if_pos he] at hQ1
            rw [e152]
            exact blk hz2 hok.2.2.2.1 hQ1
          · rw [if_neg hne] at hQ1
            rw [e152]
            exact blk hy2 hok.2.2.1 hQ1
        · rw [ex] at hQ1
          exact P2 μ2 (evF hQ1 gE a54 a39)
    · have h500 := H.2.2.2.1.2
      have h0 : s.1 = 0 := by
        have := (nI_eq (a := 500 - s.1) (b := 500) (by omega) (by decide)).mp he
        omega
      have hgo : go C g lg dp c n ab v last (.add st b) s = ((3, 0, .thrown), last, s) := by
        cases g with
        | zero => exact go_0
        | succ g => exact go_sp h0
      rw [hgo] at hQ
      have f1 : fr [42] μ μ1 := by rw [e1]; exact fr.refl.sI (by decide)
      exact hQ μ1 (H.fr f1 (by decide)) (RMf.of f1 (by decide) (by decide)) (by rw [f1.eI (by decide)]; exact h54) (by rw [e1, mI_s])
  | _ => exact hB.elim
/-- a run of the model follows the pure one -/
theorem M_go : ∀ (g : Nat), GmP G ρ C g
  | 0 => M_goS fun _ h => by cases h
  | g + 1 => M_goS fun g' h => by
    injection h with h
    rw [h]
    exact M_go g
end
