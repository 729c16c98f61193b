set_option maxRecDepth 100000
theorem BmQ.nar {C : Ctx} {dp : Nat} {μ : mm_S} {Q : Int32 → mm_S → Prop} {R : RO} (h : BmQ C dp μ Q R) : BmQ C dp μ (fun v μ' => narrow .boolean (.int v) = .int v ∧ Q v μ') R := by
  obtain ⟨⟨q, x, b⟩, l, s⟩ := R
  match q, h with
  | 0, h => exact fun μ' a1 a2 a3 a4 a5 => ⟨rfl, h μ' a1 a2 a3 a4 a5⟩
  | 1, h => exact fun μ' a1 a2 a3 a4 a5 => ⟨rfl, h μ' a1 a2 a3 a4 a5⟩
  | 2, h => exact fun μ' a1 a2 a3 a4 a5 => ⟨rfl, h μ' a1 a2 a3 a4 a5⟩
  | 3, h => exact fun μ' a1 a2 a3 a4 => ⟨rfl, h μ' a1 a2 a3 a4⟩
  | _ + 4, _ => exact trivial
theorem BmQ.up {C : Ctx} {dp : Nat} {μ μ1 : mm_S} {Q : Int32 → mm_S → Prop} {R : RO} (h : BmQ C dp μ Q R) (hf : RMf dp μ μ1) : BmQ C dp μ1 Q R := by
  obtain ⟨⟨q, x, b⟩, l, s⟩ := R
  match q, h with
  | 0, h => exact fun μ' a1 a2 => h μ' a1 (hf.trans a2)
  | 1, h => exact fun μ' a1 a2 => h μ' a1 (hf.trans a2)
  | 2, h => exact fun μ' a1 a2 => h μ' a1 (hf.trans a2)
  | 3, h => exact fun μ' a1 a2 => h μ' a1 (hf.trans a2)
  | _ + 4, _ => exact trivial
theorem RMf.ofS {dp : Nat} {μ μ1 : mm_S} (h : fr [43, 44, 45, 46, 47, 48, 49, 50, 51] μ μ1) (hs : FrS (dp + 1) μ μ1) : RMf dp μ μ1 := ⟨h.more (by decide), fun q _ => by rw [h.eA (show (23 : Nat) ∉ [43, 44, 45, 46, 47, 48, 49, 50, 51] by decide)], fun i hi => by
  obtain ⟨a1, a2, a3, a4, a5, a6⟩ := hs.1 i (by omega)
  exact ⟨a1, a2, a4, a5, a6⟩, fun i hi => (hs.1 i (by omega)).2.2.1, fun q hq => hs.2 q (by omega)⟩
section
variable {G : am_G} {ρ : mm_F} {C : Ctx} {s : RSt} {d g : Nat} {μ : mm_S}
/-- a call's outcome and what comes behind it -/
theorem M_goC {lg : Bool} {dp c : Nat} {n : Int32} {ab : List (Term × Int32 × Int32)} {v last : Int32} {b : Term} {nd : Nat → Int32} {txt : Nat} {Qg P : Int32 → mm_S → Prop} (hg : s.1 ≤ g) (step : ∀ (last2 : Int32) (s2 : RSt) (μ2 : mm_S), MR C s2 μ2 → s2.1 ≤ g → RMf dp μ μ2 → mA μ2 45 dp = last2 → mI μ2 54 = 0 → mI μ2 42 = 0 → GmQ C dp μ nd txt Qg (go C g lg dp c n ab v last2 b s2) → P 0 μ2) (P2 : ∀ μ', Qg 2 μ' → P 2 μ') {c' : Nat} {n' v' : Int32} {t : Term × Int32 × Int32} {l : List (Term × Int32 × Int32)} (hne : ¬ dp = 20) (hQ : GmQ C dp μ nd txt Qg (goC C g lg dp c n ab v last b s c' n' v' (t :: l))) : BmQ C dp μ (fun v μ' => (v = 0 → P 2 μ') ∧ (¬ v = 0 → P 0 μ')) (go C g false (dp + 1) c' n' l v' 0 t.1 (noteR C s c' n' t)) := by
  unfold goC at hQ
  dsimp only at hQ
  rw [if_neg hne] at hQ
  have hfu := go_fuel (C := C) g false (dp + 1) c' n' l v' 0 t.1 (noteR C s c' n' t)
  rw [noteR_fuel] at hfu
  revert hQ hfu
  generalize go C g false (dp + 1) c' n' l v' 0 t.1 (noteR C s c' n' t) = R
  intro hQ hfu
  obtain ⟨⟨q, x, b'⟩, lx, s'⟩ := R
  have hfu' : s'.1 ≤ g := Nat.le_trans hfu hg
  match q, hQ with
  | 0, hQ => exact fun μ' a1 a2 a3 a4 a5 => ⟨fun h9 => absurd h9 (by decide), fun _ => step 0 s' μ' a1 hfu' a2 a3 a4 a5 hQ⟩
  | 1, hQ => exact fun μ' a1 a2 a3 a4 a5 => ⟨fun h9 => absurd h9 (by decide), fun _ => step x s' μ' a1 hfu' a2 a3 a4 a5 hQ⟩
  | 2, hQ => exact fun μ' a1 a2 a3 a4 a5 => ⟨fun _ => P2 μ' (hQ μ' a1 a2 a3 a4 a5), fun h9 => absurd rfl h9⟩
  | 3, hQ => exact fun μ' a1 a2 a3 a4 => ⟨fun _ => P2 μ' (hQ μ' a1 a2 a3 a4), fun h9 => absurd rfl h9⟩
  | _ + 4, _ => exact trivial
/-- a failure told -/
theorem M_fail {dp : Nat} {last q : Int32} {b : Term} {nd : Nat → Int32} {txt : Nat} {Qg : Int32 → mm_S → Prop} (H : MR C s μ) (h54 : mI μ 54 = 0) (h42 : mI μ 42 = 0) (hQ : GmQ C dp μ nd txt Qg ((2, q, b), last, s)) {μ' : mm_S} (e : μ' = mm_sI μ 39 q) : Qg 2 μ' := by
  subst e
  have f : fr [39] μ (mm_sI μ 39 q) := fr.refl.sI (by decide)
  exact hQ _ (H.fr f (by decide)) (RMf.of f (by decide) (by decide)) h54 h42 mI_s
/-- the acts of a frame are copied into the next -/
theorem M_copy {dp c at_ : Nat} {n v last : Int32} {l : List (Term × Int32 × Int32)} (hdp : dp + 1 ≤ 20) (hF : FM μ dp c v last) (hA : FA μ dp n l) (h47 : mA μ 47 dp = nI at_) {Q : Int32 → mm_S → Prop} (hQ : ∀ μ', fr [43, 44, 45, 46, 47, 48, 49, 50, 51] μ μ' → FrS (dp + 1) μ μ' → FM μ' (dp + 1) c v 0 → FA μ' (dp + 1) n l → mA μ' 47 (dp + 1) = nI (at_ + 1) → W_X6_body G ρ d (nI (dp + 1)) μ' fun v8 μ7 => (narrow .boolean (.int v8) = .int v8 ∧ Q v8 μ7)) : ∀ (f j : Nat) (μ1 : mm_S), j + f = l.length → fr [49, 50, 51] μ μ1 → (∀ q, ¬ (12 * (dp + 1) ≤ q ∧ q < 12 * (dp + 1) + 12) → mA μ1 49 q = mA μ 49 q ∧ mA μ1 50 q = mA μ 50 q ∧ mA μ1 51 q = mA μ 51 q) → (∀ i, i < j → mA μ1 49 (12 * (dp + 1) + i) = mA μ 49 (12 * dp + i) ∧ mA μ1 50 (12 * (dp + 1) + i) = mA μ 50 (12 * dp + i) ∧ mA μ1 51 (12 * (dp + 1) + i) = mA μ 51 (12 * dp + i)) → B_X6_up_46 G ρ (d + 1) (nI dp) (nI (dp + 1)) (nI j) μ1 Q
  | 0, j, μ1, hj, g1, o1, c1 => by
    have hjl : j = l.length := by omega
    have hl12 := hA.2.1
    have v1 : vp_in (nI dp) 21 := vp_in_nI (by omega) (by decide)
    have v2 : vp_in (nI (dp + 1)) 21 := vp_in_nI (by omega) (by decide)
    have eq : ∀ k, k ∉ [49, 50, 51] → mA μ1 k = mA μ k := fun k hk => g1.eA hk
    refine B_X6_up_46_f ?_
    rw [nI_clamp (show dp < 2 ^ 31 by omega), nI_clamp (show dp + 1 < 2 ^ 31 by omega), eq 46 (by decide), hA.1]
    refine ⟨v1, fun _ => ⟨v1, v2, fun μ2 e2 => ⟨v1, v2, fun μ3 e3 => ⟨v1, v2, fun μ4 e4 => ⟨v1, v2, fun μ5 e5 => ⟨v2, fun μ6 e6 => ⟨v1, v2, fun μ7 e7 => ?_⟩⟩⟩⟩⟩⟩, fun h9 => absurd (by rw [hjl]; exact Int32.le_refl _) h9⟩
    have x47 : mA μ2 47 dp + 1 = nI (at_ + 1) := by rw [e2, mA_o (by decide), eq 47 (by decide), h47, nI_1]
    have x43 : mA μ3 43 dp = nI c := by rw [e3, mA_o (by decide), e2, mA_o (by decide), eq 43 (by decide)]; exact hF.1
    have x44 : mA μ4 44 dp = v := by rw [e4, mA_o (by decide), e3, mA_o (by decide), e2, mA_o (by decide), eq 44 (by decide)]; exact hF.2.1
    have x48 : mA μ6 48 dp = n := by rw [e6, mA_o (by decide), e5, mA_o (by decide), e4, mA_o (by decide), e3, mA_o (by decide), e2, mA_o (by decide), eq 48 (by decide)]; exact hA.2.2.1
    rw [x47] at e3
    rw [x43] at e4
    rw [x44] at e5
    rw [x48] at e7
    have gA : fr [43, 44, 45, 46, 47, 48, 49, 50, 51] μ μ7 := by
      rw [e7, e6, e5, e4, e3, e2]
      exact ((((((g1.more (by decide)).sA (by decide)).sA (by decide)).sA (by decide)).sA (by decide)).sA (by decide)).sA (by decide)
    have r46 : ∀ q, mA μ7 46 q = if q = dp + 1 then nI l.length else mA μ 46 q := fun q => by
      rw [e7, mA_o (by decide), e6, mA_o (by decide), e5, mA_o (by decide), e4, mA_o (by decide), e3, mA_o (by decide), e2]
      by_cases hq : q = dp + 1
      · rw [if_pos hq, hq, mA_s]
      · rw [if_neg hq, mA_i hq, eq 46 (by decide)]
    have r47 : ∀ q, mA μ7 47 q = if q = dp + 1 then nI (at_ + 1) else mA μ 47 q := fun q => by
      rw [e7, mA_o (by decide), e6, mA_o (by decide), e5, mA_o (by decide), e4, mA_o (by decide), e3]
      by_cases hq : q = dp + 1
      · rw [if_pos hq, hq, mA_s]
      · rw [if_neg hq, mA_i hq, e2, mA_o (by decide), eq 47 (by decide)]
    have r43 : ∀ q, mA μ7 43 q = if q = dp + 1 then nI c else mA μ 43 q := fun q => by
      rw [e7, mA_o (by decide), e6, mA_o (by decide), e5, mA_o (by decide), e4]
      by_cases hq : q = dp + 1
      · rw [if_pos hq, hq, mA_s]
      · rw [if_neg hq, mA_i hq, e3, mA_o (by decide), e2, mA_o (by decide), eq 43 (by decide)]
    have r44 : ∀ q, mA μ7 44 q = if q = dp + 1 then v else mA μ 44 q := fun q => by
      rw [e7, mA_o (by decide), e6, mA_o (by decide), e5]
      by_cases hq : q = dp + 1
      · rw [if_pos hq, hq, mA_s]
      · rw [if_neg hq, mA_i hq, e4, mA_o (by decide), e3, mA_o (by decide), e2, mA_o (by decide), eq 44 (by decide)]
    have r45 : ∀ q, mA μ7 45 q = if q = dp + 1 then 0 else mA μ 45 q := fun q => by
      rw [e7, mA_o (by decide), e6]
      by_cases hq : q = dp + 1
      · rw [if_pos hq, hq, mA_s]
      · rw [if_neg hq, mA_i hq, e5, mA_o (by decide), e4, mA_o (by decide), e3, mA_o (by decide), e2, mA_o (by decide), eq 45 (by decide)]
    have r48 : ∀ q, mA μ7 48 q = if q = dp + 1 then n else mA μ 48 q := fun q => by
      rw [e7]
      by_cases hq : q = dp + 1
      · rw [if_pos hq, hq, mA_s]
      · rw [if_neg hq, mA_i hq, e6, mA_o (by decide), e5, mA_o (by decide), e4, mA_o (by decide), e3, mA_o (by decide), e2, mA_o (by decide), eq 48 (by decide)]
    have b9 : ∀ k q, k ∈ [49, 50, 51] → mA μ7 k q = mA μ1 k q := fun k q hk => by
      have hk2 : k ≠ 43 ∧ k ≠ 44 ∧ k ≠ 45 ∧ k ≠ 46 ∧ k ≠ 47 ∧ k ≠ 48 := by
        refine ⟨?_, ?_, ?_, ?_, ?_, ?_⟩ <;> (intro e; rw [e] at hk; exact absurd hk (by decide))
      rw [e7, mA_o hk2.2.2.2.2.2, e6, mA_o hk2.2.2.1, e5, mA_o hk2.2.1, e4, mA_o hk2.1, e3, mA_o hk2.2.2.2.2.1, e2, mA_o hk2.2.2.2.1]
    refine hQ μ7 gA ⟨fun i hi => ?_, fun q hq => ?_⟩ ⟨by rw [r43, if_pos rfl], by rw [r44, if_pos rfl], by rw [r45, if_pos rfl]⟩ ⟨by rw [r46, if_pos rfl], hl12, by rw [r48, if_pos rfl], fun i t hi => ?_⟩ (by rw [r47, if_pos rfl])
    · rw [r43, r44, r45, r46, r47, r48, if_neg (by omega), if_neg (by omega), if_neg (by omega), if_neg (by omega), if_neg (by omega), if_neg (by omega)]
      exact ⟨rfl, rfl, rfl, rfl, rfl, rfl⟩
    · rw [b9 49 q (by decide), b9 50 q (by decide), b9 51 q (by decide)]
      exact o1 q (by omega)
    · obtain ⟨y1, y2, y3, y4⟩ := hA.2.2.2 i t hi
      have hil := get_lt hi
      obtain ⟨z1, z2, z3⟩ := c1 i (by omega)
      rw [b9 49 _ (by decide), b9 50 _ (by decide), b9 51 _ (by decide), z1, z2, z3]
      exact ⟨bG_eq (gA.eA (by decide)) y1, y2, y3, y4⟩
  | f + 1, j, μ1, hj, g1, o1, c1 => by
    have hl12 := hA.2.1
    have v1 : vp_in (nI dp) 21 := vp_in_nI (by omega) (by decide)
    have eq : ∀ k, k ∉ [49, 50, 51] → mA μ1 k = mA μ k := fun k hk => g1.eA hk
    have ea : 12 * nI dp + nI j = nI (12 * dp + j) := by rw [show (12 : Int32) = nI 12 from rfl, pk_mul, nI_add]
    have eb : 12 * nI (dp + 1) + nI j = nI (12 * (dp + 1) + j) := by rw [show (12 : Int32) = nI 12 from rfl, pk_mul, nI_add]
    have va : vp_in (nI (12 * dp + j)) 252 := vp_in_nI (by omega) (by decide)
    have vb : vp_in (nI (12 * (dp + 1) + j)) 252 := vp_in_nI (by omega) (by decide)
    refine B_X6_up_46_f ?_
    rw [nI_clamp (show dp < 2 ^ 31 by omega), eq 46 (by decide), hA.1, ea, eb, nI_clamp (show 12 * dp + j < 2 ^ 31 by omega), nI_clamp (show 12 * (dp + 1) + j < 2 ^ 31 by omega)]
    refine ⟨v1, fun h9 => absurd h9 (nI_ge (by omega) (by omega)), fun _ => ⟨va, vb, fun μ2 e2 => ⟨va, vb, fun μ3 e3 => ⟨va, vb, fun μ4 e4 => ?_⟩⟩⟩⟩
    rw [nI_1]
    obtain ⟨s1, s2, s3⟩ := o1 (12 * dp + j) (by omega)
    have t2 : mA μ2 50 (12 * dp + j) = mA μ 50 (12 * dp + j) := by rw [e2, mA_o (by decide)]; exact s2
    have t3 : mA μ3 51 (12 * dp + j) = mA μ 51 (12 * dp + j) := by rw [e3, mA_o (by decide), e2, mA_o (by decide)]; exact s3
    rw [s1] at e2
    rw [t2] at e3
    rw [t3] at e4
    have r49 : ∀ q, mA μ4 49 q = if q = 12 * (dp + 1) + j then mA μ 49 (12 * dp + j) else mA μ1 49 q := fun q => by
      rw [e4, mA_o (by decide), e3, mA_o (by decide), e2]
      by_cases hq : q = 12 * (dp + 1) + j
      · rw [if_pos hq, hq, mA_s]
      · rw [if_neg hq, mA_i hq]
    have r50 : ∀ q, mA μ4 50 q = if q = 12 * (dp + 1) + j then mA μ 50 (12 * dp + j) else mA μ1 50 q := fun q => by
      rw [e4, mA_o (by decide), e3]
      by_cases hq : q = 12 * (dp + 1) + j
      · rw [if_pos hq, hq, mA_s]
      · rw [if_neg hq, mA_i hq, e2, mA_o (by decide)]
    have r51 : ∀ q, mA μ4 51 q = if q = 12 * (dp + 1) + j then mA μ 51 (12 * dp + j) else mA μ1 51 q := fun q => by
      rw [e4]
      by_cases hq : q = 12 * (dp + 1) + j
      · rw [if_pos hq, hq, mA_s]
      · rw [if_neg hq, mA_i hq, e3, mA_o (by decide), e2, mA_o (by decide)]
    refine M_copy hdp hF hA h47 hQ f (j + 1) μ4 (by omega) (by rw [e4, e3, e2]; exact ((g1.sA (by decide)).sA (by decide)).sA (by decide)) (fun q hq => ?_) (fun i hi => ?_)
    · rw [r49, r50, r51, if_neg (by omega), if_neg (by omega), if_neg (by omega)]
      exact o1 q hq
    · by_cases hij : i = j
      · rw [hij, r49, r50, r51, if_pos rfl, if_pos rfl, if_pos rfl]
        exact ⟨rfl, rfl, rfl⟩
      · rw [r49, r50, r51, if_neg (by omega), if_neg (by omega), if_neg (by omega)]
        exact c1 i (by omega)
end
