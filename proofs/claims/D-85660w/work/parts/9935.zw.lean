set_option maxRecDepth 100000
/-! ===== the model while it runs ===== -/
section
variable {G : am_G} {ρ : mm_F} {d : Nat} {μ : mm_S}
/-- a node's number is read -/
theorem M_of {q f : Nat} {x1 x2 : Int32} {Q : Int32 → mm_S → Prop} (h1 : x1 = nI q) (h2 : x2 = nI f) (hq : 5 * q + f < 48000) (h : Q (mA μ 15 (5 * q + f)) μ) : W_X6_of G ρ d x1 x2 μ Q := by
  have e : 5 * x1 + x2 = nI (5 * q + f) := by
    rw [h1, h2, show (5 : Int32) = nI 5 from rfl, pk_mul, nI_add]
  refine W_X6_of_f ?_
  rw [e, nI_clamp (by omega)]
  exact ⟨vp_in_nI (by omega) (by decide), h⟩
/-- a node's link within its text -/
theorem M_in {txt k f : Nat} {x1 x2 : Int32} {Q : Int32 → mm_S → Prop} (h1 : x1 = nI (1200 * txt + k)) (h2 : x2 = nI f) (hk : k < 1200) (ht : txt < 8) (hf : f < 5) (h : Q (gI txt (nf (mA μ 15) (1200 * txt) k f)) μ) : W_X6_in G ρ (d + 1) x1 x2 μ Q := by
  refine W_X6_in_f (M_of h1 h2 (by omega) ?_)
  have e : x1 / 1200 * 1200 = nI (1200 * txt) := by
    rw [h1, show (1200 : Int32) = nI 1200 from rfl, pk_div (by omega) (by decide) (by decide), pk_mul]
    congr 1
    omega
  rw [e]
  unfold gI nf at h
  by_cases h9 : mA μ 15 (5 * (1200 * txt + k) + f) = -1
  · rw [if_pos h9] at h
    exact ⟨fun h8 => absurd h9 h8, fun _ => h⟩
  · rw [if_neg h9] at h
    exact ⟨fun _ => h, fun h8 => absurd h8 h9⟩
theorem gI_n {txt k : Nat} (hk : k < 2 ^ 31) : gI txt (nI k) = nI (1200 * txt + k) := by
  unfold gI
  rw [if_neg (nI_m1 hk), nI_add]
end
/-- what the model has while it runs -/
def MR (C : Ctx) (s : RSt) (μ : mm_S) : Prop := (isW (bG μ) μ 0 s.2.1 ∧ WdI s.2.1) ∧ ((∀ q, q < 1600 → mA μ 36 q = s.2.2.1 q) ∧ (∀ q, q < 1600 → mA μ 37 q = s.2.2.2.1 q) ∧ ∀ q, q < 1600 → mA μ 38 q = cH C q) ∧ (mI μ 33 = nI (cN C) ∧ cN C ≤ 40 ∧ (∀ c, c < cN C → mA μ 34 c = if cL C c = true then 1 else 0) ∧ ∀ c, c < cN C → cL C c = true → mA μ 35 c = nI (cK C c) ∧ cK C c < s.2.1.length) ∧ (mI μ 41 = nI (500 - s.1) ∧ s.1 ≤ 500) ∧ (mI μ 60 = (if cB C = true then 1 else 0) ∧ mI μ 66 = nI s.2.2.2.2.length ∧ s.2.2.2.2.length ≤ 50 ∧ ∀ (i : Nat) (r : Int32 × Int32 × Int32 × Int32), s.2.2.2.2[i]? = some r → mA μ 62 i = r.1 ∧ mA μ 63 i = r.2.1 ∧ mA μ 64 i = r.2.2.1 ∧ mA μ 65 i = r.2.2.2)
/-- what runs change besides -/
theorem MR.fr {C : Ctx} {s : RSt} {μ μ' : mm_S} {ks : List Nat} (h : MR C s μ) (g : fr ks μ μ') (hk : ∀ k, k ∈ [15, 23, 33, 34, 35, 36, 37, 38, 41, 60, 62, 63, 64, 65, 66] → k ∉ ks) : MR C s μ' := by
  obtain ⟨⟨h1, h0⟩, ⟨h2, h3, h4⟩, ⟨h5, h6, h7, h8⟩, ⟨h9, h10⟩, h11, h12, h13, h14⟩ := h
  have e15 : mA μ' 15 = mA μ 15 := g.eA (hk 15 (by decide))
  have e23 : mA μ' 23 = mA μ 23 := g.eA (hk 23 (by decide))
  refine ⟨⟨h1.ext (fun f _ => by rw [e23]) fun t x hb => ?_, h0⟩, ⟨by rw [g.eA (hk 36 (by decide))]; exact h2, by rw [g.eA (hk 37 (by decide))]; exact h3, by rw [g.eA (hk 38 (by decide))]; exact h4⟩, ⟨by rw [g.eI (hk 33 (by decide))]; exact h5, h6, by rw [g.eA (hk 34 (by decide))]; exact h7, by rw [g.eA (hk 35 (by decide))]; exact h8⟩, ⟨by rw [g.eI (hk 41 (by decide))]; exact h9, h10⟩, by rw [g.eI (hk 60 (by decide))]; exact h11, by rw [g.eI (hk 66 (by decide))]; exact h12, h13, by rw [g.eA (hk 62 (by decide)), g.eA (hk 63 (by decide)), g.eA (hk 64 (by decide)), g.eA (hk 65 (by decide))]; exact h14⟩
  unfold bG at hb ⊢
  rw [e15]
  exact hb
section
variable {G : am_G} {ρ : mm_F} {d : Nat} {μ : mm_S} {C : Ctx} {s : RSt}
/-- how a creature has a name: 0 a field, 1 a static, 2 what was lost, -1 not at all -/
def srt (C : Ctx) (s : RSt) (c : Nat) (n : Int32) : Int32 := match fUp s.2.1 (cK C c) n with
  | some _ => 0
  | none => match sUp s.2.1 (cK C c) n with
    | some _ => 1
    | none => if cH C (ixV c n) = 0 then -1 else 2
theorem upK_ltW {L : List Kd} {q : Kd → Bool} {f k u : Nat} (h : upK L q f (some k) = some u) : u < L.length := by
  obtain ⟨ku, h1, -⟩ := upK_is f _ h
  exact get_lt h1
theorem M_i40 {c m : Nat} : 40 * nI c + nI m = nI (40 * c + m) := by
  rw [show (40 : Int32) = nI 40 from rfl, pk_mul, nI_add]
theorem M_sort (H : MR C s μ) {c m : Nat} (hc : c < cN C) (hl : cL C c = true) (hm : m < 40) {Q : Int32 → mm_S → Prop} (h : Q (srt C s c (nI m)) μ) : W_X6_sort G ρ (d + 3) (nI c) (nI m) μ Q := by
  obtain ⟨⟨h1, h0⟩, ⟨h2, h3, h4⟩, ⟨h5, h6, h7, h8⟩, h9⟩ := H
  obtain ⟨k1, k2⟩ := h8 c hc hl
  have hL12 := h1.2.1
  unfold srt at h
  refine W_X6_sort_f ?_
  rw [nI_clamp (show c < 2 ^ 31 by omega)]
  refine ⟨vp_in_nI (by omega) (by decide), ?_⟩
  refine K_fieldAt (o := some (cK C c)) rfl k1 (by decide) h1 h0.2.1 (fun k hk => by cases hk; exact k2) ?_
  show (oI (fUp s.2.1 (cK C c) (nI m)) = -1 → _) ∧ (¬ oI (fUp s.2.1 (cK C c) (nI m)) = -1 → _)
  cases hf : fUp s.2.1 (cK C c) (nI m) with
  | some u =>
    rw [hf] at h
    have hu := upK_ltW hf
    exact ⟨fun h9 => absurd h9 (nI_m1 (by omega)), fun _ => h⟩
  | none =>
    rw [hf] at h
    refine ⟨fun _ => ⟨vp_in_nI (by omega) (by decide), K_fixedAt (o := some (cK C c)) rfl k1 (by decide) h1 h0.2.1 (fun k hk => by cases hk; exact k2) ?_⟩, fun h9 => absurd rfl h9⟩
    show (oI (sUp s.2.1 (cK C c) (nI m)) = -1 → _) ∧ (¬ oI (sUp s.2.1 (cK C c) (nI m)) = -1 → _)
    cases hs : sUp s.2.1 (cK C c) (nI m) with
    | some u =>
      rw [hs] at h
      have hu := upK_ltW hs
      exact ⟨fun h9 => absurd h9 (nI_m1 (by omega)), fun _ => h⟩
    | none =>
      rw [hs] at h
      have h' : Q (if cH C (ixV c (nI m)) = 0 then -1 else 2) μ := h
      rw [ixV_n rfl hm] at h'
      refine ⟨fun _ => ?_, fun h9 => absurd rfl h9⟩
      rw [M_i40, nI_clamp (by omega)]
      refine ⟨vp_in_nI (by omega) (by decide), fun he => ?_, fun he => ?_⟩
      · rw [h4 _ (by omega)] at he
        rw [if_pos he] at h'
        exact h'
      · rw [h4 _ (by omega)] at he
        rw [if_neg he] at h'
        exact h'
/-- a static's place, for reading and writing -/
theorem M_fxAt (H : MR C s μ) {c m u : Nat} (hc : c < cN C) (hl : cL C c = true) (hs : sUp s.2.1 (cK C c) (nI m) = some u) {K : Int32 → Int32 → mm_S → Prop} (h : ∀ ku i sv, s.2.1[u]? = some ku → ixS ku (nI m) = some i → (kS ku)[i]? = some sv → i < 4 → u < 12 → gtS s.2.1 u (nI m) = sv.2 → K (nI u) (nI i) μ) : (vp_in (nI c) 40 ∧ W_X6_fixedAt G ρ (d + 2) 0 (mA μ 35 (Int32.toNatClampNeg (nI c))) (nI m) μ (fun v13 μ12 => (vp_in (nI c) 40 ∧ W_X6_fixedAt G ρ (d + 2) 0 (mA μ12 35 (Int32.toNatClampNeg (nI c))) (nI m) μ12 (fun v15 μ14 => W_X6_fixedOf G ρ (d + 2) 0 v15 (nI m) μ14 (fun v17 μ16 => K v13 v17 μ16))))) := by
  obtain ⟨⟨h1, h0⟩, h2, ⟨h5, h6, h7, h8⟩, h9⟩ := H
  obtain ⟨k1, k2⟩ := h8 c hc hl
  rw [nI_clamp (show c < 2 ^ 31 by omega)]
  have hu := upK_ltW hs
  have hL12 := h1.2.1
  obtain ⟨ku, u1, u2⟩ := upK_is 12 _ hs
  cases hi : ixS ku (nI m) with
  | none => rw [hi] at u2; cases u2
  | some i =>
    obtain ⟨sv, s1, s2⟩ := ixf_some hi
    have hK := h1.2.2 u ku u1
    have hi4 : i < 4 := by
      have := get_lt s1
      have := hK.2.2.2.2.2.2.1.2.1
      omega
    refine ⟨vp_in_nI (by omega) (by decide), K_fixedAt (o := some (cK C c)) rfl k1 (by decide) h1 h0.2.1 (fun k hk => by cases hk; exact k2) ⟨vp_in_nI (by omega) (by decide), K_fixedAt (o := some (cK C c)) rfl k1 (by decide) h1 h0.2.1 (fun k hk => by cases hk; exact k2) ?_⟩⟩
    have e9 : oI (upK s.2.1 (fun kd => (ixS kd (nI m)).isSome) 12 (some (cK C c))) = nI u := by
      show oI (sUp s.2.1 (cK C c) (nI m)) = _
      rw [hs]
      rfl
    rw [e9]
    refine K_fixedOf rfl rfl (by decide) (by omega) hK ?_
    rw [hi]
    exact h ku i sv u1 hi s1 hi4 (by omega) (gtS_of u1 hi s1)
end
