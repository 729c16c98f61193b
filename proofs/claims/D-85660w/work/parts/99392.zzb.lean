set_option maxRecDepth 100000
theorem FA.fr {μ μ' : mm_S} {dp : Nat} {n : Int32} {l : List (Term × Int32 × Int32)} (h : FA μ dp n l) (h46 : mA μ' 46 dp = mA μ 46 dp) (h48 : mA μ' 48 dp = mA μ 48 dp) (h15 : mA μ' 15 = mA μ 15) (hq : ∀ q, 12 * dp ≤ q → q < 12 * dp + 12 → mA μ' 49 q = mA μ 49 q ∧ mA μ' 50 q = mA μ 50 q ∧ mA μ' 51 q = mA μ 51 q) : FA μ' dp n l := by
  obtain ⟨h1, h2, h3, h4⟩ := h
  refine ⟨h46.trans h1, h2, h48.trans h3, fun i t hi => ?_⟩
  have hil := get_lt hi
  obtain ⟨c1, c2, c3, c4⟩ := h4 i t hi
  obtain ⟨q1, q2, q3⟩ := hq (12 * dp + i) (by omega) (by omega)
  exact ⟨by rw [q1]; exact bG_eq h15 c1, q2.trans c2, q3.trans c3, c4⟩
/-- the frames up to hi are the same -/
def FrS (hi : Nat) (μ μ' : mm_S) : Prop := (∀ i, i < hi → mA μ' 43 i = mA μ 43 i ∧ mA μ' 44 i = mA μ 44 i ∧ mA μ' 45 i = mA μ 45 i ∧ mA μ' 46 i = mA μ 46 i ∧ mA μ' 47 i = mA μ 47 i ∧ mA μ' 48 i = mA μ 48 i) ∧ ∀ q, q < 12 * hi → mA μ' 49 q = mA μ 49 q ∧ mA μ' 50 q = mA μ 50 q ∧ mA μ' 51 q = mA μ 51 q
section
variable {G : am_G} {ρ : mm_F} {C : Ctx} {s : RSt} {d : Nat} {μ : mm_S}
/-- an act is opened in a frame -/
theorem M_opens (H : MR C s μ) {c m dp : Nat} {v : Int32} (hc : c < cN C) (hl : cL C c = true) (hdp : dp ≤ 20) {Q : Int32 → mm_S → Prop} (h : ∀ μ', MR C s μ' → fr [43, 44, 45, 46, 47, 48, 49, 50, 51] μ μ' → FrS dp μ μ' → FM μ' dp c v 0 → mA μ' 47 dp = 0 → FA μ' dp (nI m) (acts s.2.1 (nI m) 12 (some (cK C c))) → Q (if acts s.2.1 (nI m) 12 (some (cK C c)) = [] then 0 else 1) μ') : W_X6_opens_2 G ρ (d + 4) (nI dp) (nI c) (nI m) v μ Q := by
  have H' := H
  obtain ⟨⟨h1, h0⟩, ⟨h2, h3, h4⟩, ⟨h5, h6, h7, h8⟩, h9⟩ := H
  obtain ⟨k1, k2⟩ := h8 c hc hl
  have hL12 := h1.2.1
  have hac := h0.2.1 _ k2
  have hvd : vp_in (nI dp) 21 := vp_in_nI (by omega) (by decide)
  refine W_X6_opens_2_f ?_
  rw [nI_clamp (show c < 2 ^ 31 by omega), nI_clamp (show dp < 2 ^ 31 by omega), k1]
  refine ⟨vp_in_nI (by omega) (by decide), W_X6_acts_f ?_⟩
  refine M_acts_l (G := G) (ρ := ρ) (d := d + 1) (n := nI m) hdp h0 (μ0 := μ) (L := s.2.1) 12 (some (cK C c)) [] μ hac (fun k hk => by cases hk; exact k2) (by decide) h1 (fun i t hi => by cases hi) fr.refl (fun q _ => ⟨rfl, rfl, rfl⟩) fun μ1 g1 o1 a1 => ?_
  rw [List.nil_append] at a1 ⊢
  have hlen := acts_len (L := s.2.1) (n := nI m) 12 (some (cK C c))
  refine ⟨hvd, fun μ3 e3 => ⟨hvd, fun μ4 e4 => ⟨hvd, fun μ5 e5 => ⟨hvd, fun μ6 e6 => ⟨hvd, fun μ7 e7 => ⟨hvd, fun μ8 e8 => ⟨hvd, ?_⟩⟩⟩⟩⟩⟩⟩
  have gA : fr [43, 44, 45, 46, 47, 48, 49, 50, 51] μ μ8 := by
    rw [e8, e7, e6, e5, e4, e3]
    exact ((((((g1.more (by decide)).sA (by decide)).sA (by decide)).sA (by decide)).sA (by decide)).sA (by decide)).sA (by decide)
  have b43 : mA μ8 43 dp = nI c := by rw [e8, mA_o (by decide), e7, mA_o (by decide), e6, mA_o (by decide), e5, mA_s]
  have b44 : mA μ8 44 dp = v := by rw [e8, mA_o (by decide), e7, mA_o (by decide), e6, mA_s]
  have b45 : mA μ8 45 dp = 0 := by rw [e8, mA_o (by decide), e7, mA_s]
  have b46 : mA μ8 46 dp = nI (acts s.2.1 (nI m) 12 (some (cK C c))).length := by rw [e8, mA_o (by decide), e7, mA_o (by decide), e6, mA_o (by decide), e5, mA_o (by decide), e4, mA_o (by decide), e3, mA_s]
  have b47 : mA μ8 47 dp = 0 := by rw [e8, mA_o (by decide), e7, mA_o (by decide), e6, mA_o (by decide), e5, mA_o (by decide), e4, mA_s]
  have b48 : mA μ8 48 dp = nI m := by rw [e8, mA_s]
  have b9 : ∀ k, k ∈ [49, 50, 51, 15] → mA μ8 k = mA μ1 k := fun k hk => by
    have hk2 : k ≠ 43 ∧ k ≠ 44 ∧ k ≠ 45 ∧ k ≠ 46 ∧ k ≠ 47 ∧ k ≠ 48 := by
      refine ⟨?_, ?_, ?_, ?_, ?_, ?_⟩ <;> (intro e; rw [e] at hk; exact absurd hk (by decide))
    rw [e8, show mA (mm_sA μ7 48 dp (nI m)) k = mA μ7 k from funext fun q => mA_o hk2.2.2.2.2.2, e7, show mA (mm_sA μ6 45 dp 0) k = mA μ6 k from funext fun q => mA_o hk2.2.2.1, e6, show mA (mm_sA μ5 44 dp v) k = mA μ5 k from funext fun q => mA_o hk2.2.1, e5, show mA (mm_sA μ4 43 dp (nI c)) k = mA μ4 k from funext fun q => mA_o hk2.1, e4, show mA (mm_sA μ3 47 dp 0) k = mA μ3 k from funext fun q => mA_o hk2.2.2.2.2.1, e3, show mA (mm_sA μ1 46 dp _) k = mA μ1 k from funext fun q => mA_o hk2.2.2.2.1]
  have b15 : mA μ8 15 = mA μ1 15 := b9 15 (by decide)
  have fin := h μ8 (H'.fr gA (by decide)) gA ⟨fun i hi => ?_, fun q hq => ?_⟩ ⟨b43, b44, b45⟩ b47 ⟨b46, hlen, b48, fun i t hi => ?_⟩
  · rw [b46]
    cases hA : acts s.2.1 (nI m) 12 (some (cK C c)) with
    | nil =>
      rw [hA, if_pos rfl] at fin
      exact ⟨fun _ => fin, fun h9 => absurd (Int32.le_refl 0) h9⟩
    | cons t l =>
      rw [hA, if_neg (fun e => by cases e)] at fin
      rw [hA] at hlen
      exact ⟨fun h9 => absurd h9 (nI_nle (Nat.succ_pos _) (by omega)), fun _ => fin⟩
  · refine ⟨?_, ?_, ?_, ?_, ?_, ?_⟩
    · rw [e8, mA_o (by decide), e7, mA_o (by decide), e6, mA_o (by decide), e5, mA_i (by omega), e4, mA_o (by decide), e3, mA_o (by decide), g1.eA (by decide)]
    · rw [e8, mA_o (by decide), e7, mA_o (by decide), e6, mA_i (by omega), e5, mA_o (by decide), e4, mA_o (by decide), e3, mA_o (by decide), g1.eA (by decide)]
    · rw [e8, mA_o (by decide), e7, mA_i (by omega), e6, mA_o (by decide), e5, mA_o (by decide), e4, mA_o (by decide), e3, mA_o (by decide), g1.eA (by decide)]
    · rw [e8, mA_o (by decide), e7, mA_o (by decide), e6, mA_o (by decide), e5, mA_o (by decide), e4, mA_o (by decide), e3, mA_i (by omega), g1.eA (by decide)]
    · rw [e8, mA_o (by decide), e7, mA_o (by decide), e6, mA_o (by decide), e5, mA_o (by decide), e4, mA_i (by omega), e3, mA_o (by decide), g1.eA (by decide)]
    · rw [e8, mA_i (by omega), e7, mA_o (by decide), e6, mA_o (by decide), e5, mA_o (by decide), e4, mA_o (by decide), e3, mA_o (by decide), g1.eA (by decide)]
  · obtain ⟨q1, q2, q3⟩ := o1 q (by omega)
    rw [b9 49 (by decide), b9 50 (by decide), b9 51 (by decide)]
    exact ⟨q1, q2, q3⟩
  · obtain ⟨c1, c2, c3⟩ := a1 i t hi
    rw [b9 49 (by decide), b9 50 (by decide), b9 51 (by decide)]
    exact ⟨bG_eq b15 c1, c2, c3, acts_ok (fun k kd hk => (h0.2.2.2.1 k kd hk).2.2) 12 _ t (List.mem_of_getElem? hi)⟩
/-- an act that runs is noted -/
theorem M_ran (H : MR C s μ) {c dp at_ : Nat} {v last : Int32} {n : Int32} {l : List (Term × Int32 × Int32)} {t : Term × Int32 × Int32} (hF : FM μ dp c v last) (hA : FA μ dp n l) (hdp : dp ≤ 20) (h47 : mA μ 47 dp = nI at_) (ht : l[at_]? = some t) {Q : mm_S → Prop} (hQ : ∀ μ', MR C (noteR C s c n t) μ' → fr [62, 63, 64, 65, 66] μ μ' → Q μ') : W_X6_ran G ρ d (nI dp) μ Q := by
  have hat := get_lt ht
  have H' := H
  obtain ⟨a1, a2, a3, a4⟩ := hA
  obtain ⟨c1, c2, c3, c4⟩ := a4 at_ t ht
  obtain ⟨g0, g1, g2, g3, g4, g5, g6, g7⟩ := H
  have e12 : 12 * nI dp + nI at_ = nI (12 * dp + at_) := by rw [show (12 : Int32) = nI 12 from rfl, pk_mul, nI_add]
  have hvd : vp_in (nI dp) 21 := vp_in_nI (by omega) (by decide)
  unfold noteR at hQ
  refine W_X6_ran_f ?_
  rw [g4, g5, nI_clamp (show dp < 2 ^ 31 by omega)]
  refine ⟨fun hb => ?_, fun hb => ⟨fun hne => ?_, fun he => ?_⟩⟩
  · have hbf : ¬ cB C = true := fun e => by rw [if_pos e] at hb; exact absurd hb (by decide)
    rw [if_neg (fun h9 => hbf h9.1)] at hQ
    exact hQ μ H' fr.refl
  · have hbt : cB C = true := by
      cases h9 : cB C with
      | true => rfl
      | false => rw [h9] at hb; exact absurd rfl hb
    have hlt : s.2.2.2.2.length < 50 := Nat.lt_of_le_of_ne g6 fun e => hne (by rw [e]; rfl)
    rw [if_pos ⟨hbt, hlt⟩] at hQ
    have hv5 : vp_in (nI s.2.2.2.2.length) 50 := vp_in_nI hlt (by decide)
    have hv2 : vp_in (nI (12 * dp + at_)) 252 := vp_in_nI (by omega) (by decide)
    rw [h47, e12, nI_clamp (show s.2.2.2.2.length < 2 ^ 31 by omega), nI_clamp (show 12 * dp + at_ < 2 ^ 31 by omega)]
    refine ⟨hvd, hvd, hv5, fun μ1 e1 => ⟨hvd, ?_⟩⟩
    have x66 : ∀ {μ' : mm_S}, fr [62, 63, 64, 65] μ μ' → mI μ' 66 = nI s.2.2.2.2.length := fun g => (g.eI (by decide)).trans g5
    have f1 : fr [62, 63, 64, 65] μ μ1 := by rw [e1]; exact fr.refl.sA (by decide)
    rw [x66 f1, nI_clamp (show s.2.2.2.2.length < 2 ^ 31 by omega), f1.eA (show (48 : Nat) ∉ [62, 63, 64, 65] by decide)]
    refine ⟨hv5, fun μ2 e2 => ⟨hv2, ?_⟩⟩
    have f2 : fr [62, 63, 64, 65] μ μ2 := by rw [e2]; exact f1.sA (by decide)
    rw [x66 f2, nI_clamp (show s.2.2.2.2.length < 2 ^ 31 by omega), f2.eA (show (50 : Nat) ∉ [62, 63, 64, 65] by decide)]
    refine ⟨hv5, fun μ3 e3 => ⟨hv2, ?_⟩⟩
    have f3 : fr [62, 63, 64, 65] μ μ3 := by rw [e3]; exact f2.sA (by decide)
    rw [x66 f3, nI_clamp (show s.2.2.2.2.length < 2 ^ 31 by omega), f3.eA (show (51 : Nat) ∉ [62, 63, 64, 65] by decide)]
    refine ⟨hv5, fun μ4 e4 μ5 e5 => ?_⟩
    have f4 : fr [62, 63, 64, 65] μ μ4 := by rw [e4]; exact f3.sA (by decide)
    have f5 : fr [62, 63, 64, 65, 66] μ μ5 := by rw [e5]; exact (f4.more (by decide)).sI (by decide)
    rw [hF.1] at e1
    rw [a3] at e2
    rw [c2] at e3
    rw [c3] at e4
    have r1 : ∀ q, mA μ5 62 q = if q = s.2.2.2.2.length then nI c else mA μ 62 q := fun q => by
      rw [e5]
      show mA μ4 62 q = _
      rw [e4, mA_o (by decide), e3, mA_o (by decide), e2, mA_o (by decide), e1]
      by_cases hq : q = s.2.2.2.2.length
      · rw [if_pos hq, hq, mA_s]
      · rw [if_neg hq, mA_i hq]
    have r2 : ∀ q, mA μ5 63 q = if q = s.2.2.2.2.length then n else mA μ 63 q := fun q => by
      rw [e5]
      show mA μ4 63 q = _
      rw [e4, mA_o (by decide), e3, mA_o (by decide), e2]
      by_cases hq : q = s.2.2.2.2.length
      · rw [if_pos hq, hq, mA_s]
      · rw [if_neg hq, mA_i hq, e1, mA_o (by decide)]
    have r3 : ∀ q, mA μ5 64 q = if q = s.2.2.2.2.length then t.2.1 else mA μ 64 q := fun q => by
      rw [e5]
      show mA μ4 64 q = _
      rw [e4, mA_o (by decide), e3]
      by_cases hq : q = s.2.2.2.2.length
      · rw [if_pos hq, hq, mA_s]
      · rw [if_neg hq, mA_i hq, e2, mA_o (by decide), e1, mA_o (by decide)]
    have r4 : ∀ q, mA μ5 65 q = if q = s.2.2.2.2.length then t.2.2 else mA μ 65 q := fun q => by
      rw [e5]
      show mA μ4 65 q = _
      rw [e4]
      by_cases hq : q = s.2.2.2.2.length
      · rw [if_pos hq, hq, mA_s]
      · rw [if_neg hq, mA_i hq, e3, mA_o (by decide), e2, mA_o (by decide), e1, mA_o (by decide)]
    have hM : MR C s μ4 → MR C s μ4 := id
    obtain ⟨⟨w1, w0⟩, ⟨w2, w3, w4⟩, ⟨w5, w6, w7, w8⟩, ⟨w9, w10⟩, -⟩ := H'
    have e15 : mA μ5 15 = mA μ 15 := f5.eA (by decide)
    have e23 : mA μ5 23 = mA μ 23 := f5.eA (by decide)
    refine hQ μ5 ⟨⟨w1.ext (fun f _ => by rw [e23]) fun t x hb => bG_eq e15 hb, w0⟩, ⟨by rw [f5.eA (show (36 : Nat) ∉ [62, 63, 64, 65, 66] by decide)]; exact w2, by rw [f5.eA (show (37 : Nat) ∉ [62, 63, 64, 65, 66] by decide)]; exact w3, by rw [f5.eA (show (38 : Nat) ∉ [62, 63, 64, 65, 66] by decide)]; exact w4⟩, ⟨by rw [f5.eI (show (33 : Nat) ∉ [62, 63, 64, 65, 66] by decide)]; exact w5, w6, by rw [f5.eA (show (34 : Nat) ∉ [62, 63, 64, 65, 66] by decide)]; exact w7, by rw [f5.eA (show (35 : Nat) ∉ [62, 63, 64, 65, 66] by decide)]; exact w8⟩, ⟨by rw [f5.eI (show (41 : Nat) ∉ [62, 63, 64, 65, 66] by decide)]; exact w9, w10⟩, by rw [f5.eI (show (60 : Nat) ∉ [62, 63, 64, 65, 66] by decide)]; exact g4, ?_, ?_, fun i r hr => ?_⟩ f5
    · rw [e5, mI_s, x66 f4, nI_1]
      show _ = nI (s.2.2.2.2 ++ [(nI c, n, t.2.1, t.2.2)]).length
      rw [List.length_append]
      rfl
    · show (s.2.2.2.2 ++ [(nI c, n, t.2.1, t.2.2)]).length ≤ 50
      rw [List.length_append]
      show s.2.2.2.2.length + 1 ≤ 50
      omega
    · have hr' : (s.2.2.2.2 ++ [(nI c, n, t.2.1, t.2.2)])[i]? = some r := hr
      rcases app_get hr' with ⟨w1, w2⟩ | ⟨w1, w2⟩
      · obtain ⟨m1, m2, m3, m4⟩ := g7 i r w1
        rw [r1, r2, r3, r4, if_neg (by omega), if_neg (by omega), if_neg (by omega), if_neg (by omega)]
        exact ⟨m1, m2, m3, m4⟩
      · subst w1
        rw [w2, r1, r2, r3, r4, if_pos rfl, if_pos rfl, if_pos rfl, if_pos rfl]
        exact ⟨rfl, rfl, rfl, rfl⟩
  · have hlt : ¬ s.2.2.2.2.length < 50 := fun h9 => by
      have := (nI_eq (a := s.2.2.2.2.length) (b := 50) (by omega) (by decide)).mp he
      omega
    rw [if_neg (fun h9 => hlt h9.2)] at hQ
    exact hQ μ H' fr.refl
end
