set_option maxRecDepth 100000
/-- a frame's acts -/
def FA (μ : mm_S) (dp : Nat) (n : Int32) (l : List (Term × Int32 × Int32)) : Prop := mA μ 46 dp = nI l.length ∧ l.length ≤ 12 ∧ mA μ 48 dp = n ∧ ∀ (i : Nat) (t : Term × Int32 × Int32), l[i]? = some t → bG μ t.1 (mA μ 49 (12 * dp + i)) ∧ mA μ 50 (12 * dp + i) = t.2.1 ∧ mA μ 51 (12 * dp + i) = t.2.2 ∧ okB t.1 12
/-- acts that lie in a frame's rows -/
def AcR (μ : mm_S) (dp : Nat) (l : List (Term × Int32 × Int32)) : Prop := ∀ (i : Nat) (t : Term × Int32 × Int32), l[i]? = some t → bG μ t.1 (mA μ 49 (12 * dp + i)) ∧ mA μ 50 (12 * dp + i) = t.2.1 ∧ mA μ 51 (12 * dp + i) = t.2.2
theorem acts_len {L : List Kd} {n : Int32} : ∀ (f : Nat) (o : Option Nat), (acts L n f o).length ≤ f
  | f, none => by rw [acts_none]; exact Nat.zero_le _
  | 0, some _ => Nat.le_refl _
  | f + 1, some k => by
    cases hk : L[k]? with
    | none =>
      have : acts L n (f + 1) (some k) = [] := by
        show (match L[k]? with | none => [] | some kd => actK kd n ++ acts L n f (kA kd)) = _
        rw [hk]
      rw [this]
      exact Nat.zero_le _
    | some kd =>
      rw [acts_some hk, List.length_append]
      have h1 := acts_len (L := L) (n := n) f (kA kd)
      have h2 : (actK kd n).length ≤ 1 := by
        unfold actK
        cases ixA kd n with
        | none => exact Nat.zero_le _
        | some i =>
          dsimp only
          cases (kX kd)[i]? with
          | none => exact Nat.zero_le _
          | some x => exact Nat.le_refl _
      omega
section
variable {G : am_G} {ρ : mm_F} {C : Ctx} {d : Nat}
/-- acts from a kind up are gathered -/
theorem M_acts_l {L : List Kd} {dp : Nat} {n : Int32} (hdp : dp ≤ 20) (hWd : WdI L) {μ0 : mm_S} {Q : Int32 → mm_S → Prop} : ∀ (f : Nat) (o : Option Nat) (l0 : List (Term × Int32 × Int32)) (μ : mm_S), ac L f o → (∀ k, o = some k → k < L.length) → l0.length + f ≤ 12 → isW (bG μ) μ 0 L → AcR μ dp l0 → fr [49, 50, 51] μ0 μ → (∀ q, ¬ (12 * dp ≤ q ∧ q < 12 * dp + 12) → mA μ 49 q = mA μ0 49 q ∧ mA μ 50 q = mA μ0 50 q ∧ mA μ 51 q = mA μ0 51 q) → (∀ μ', fr [49, 50, 51] μ0 μ' → (∀ q, ¬ (12 * dp ≤ q ∧ q < 12 * dp + 12) → mA μ' 49 q = mA μ0 49 q ∧ mA μ' 50 q = mA μ0 50 q ∧ mA μ' 51 q = mA μ0 51 q) → AcR μ' dp (l0 ++ acts L n f o) → Q (nI (l0 ++ acts L n f o).length) μ') → B_X6_acts_6 G ρ (d + 2) (nI dp) n (nI l0.length) (oI o) μ Q
  | f, none, l0, μ, _, _, hl, hW, hA, hf, ho, hQ => by
    refine B_X6_acts_6_f ⟨fun _ => ?_, fun h9 => absurd rfl h9⟩
    have := hQ μ hf ho
    rw [acts_none, List.append_nil] at this
    exact this hA
  | 0, some _, l0, μ, h, _, hl, hW, hA, hf, ho, hQ => h.elim
  | f + 1, some k, l0, μ, h, hk, hl, hW, hA, hf, ho, hQ => by
    obtain ⟨kd, h1, h2⟩ := ac_some h
    have hkL := hk k rfl
    have hL12 := hW.2.1
    have hK := hW.2.2 k kd h1
    have hab : ∀ u, kA kd = some u → u < L.length := (hWd.2.2.2.1 k kd h1).2.1
    have e1 : ∀ {μ' : mm_S}, fr [49, 50, 51] μ μ' → wd μ' 0 k 1 = oI (kA kd) ∧ wd μ' 0 k 0 = kN kd ∧ wd μ' 0 k 2 = kG kd := fun {μ'} g => by
      have e23 : mA μ' 23 = mA μ 23 := g.eA (by decide)
      refine ⟨?_, ?_, ?_⟩
      · show mA μ' 23 _ = _; rw [e23]; exact hK.2.1
      · show mA μ' 23 _ = _; rw [e23]; exact hK.1
      · show mA μ' 23 _ = _; rw [e23]; exact hK.2.2.1
    refine B_X6_acts_6_f ⟨fun h9 => absurd h9 (nI_m1 (by omega)), fun _ => K_actOf (k := k) rfl rfl (by decide) (by omega) hK ?_⟩
    rw [acts_some h1] at hQ
    cases hx : ixA kd n with
    | none =>
      have eK : actK kd n = [] := by unfold actK; rw [hx]
      rw [eK, List.nil_append] at hQ
      refine ⟨fun h9 => absurd rfl h9, fun _ => S_get (w := 0) (k := k) (f := 1) rfl rfl rfl (by decide) (by omega) (by decide) ?_⟩
      rw [(e1 fr.refl).1]
      exact M_acts_l hdp hWd f _ l0 μ h2 hab (by omega) hW hA hf ho hQ
    | some i =>
      obtain ⟨x, x1, x2⟩ := ixf_some hx
      have hX := hK.2.2.2.2.2.2.2
      have hi8 : i < 8 := by have := get_lt x1; have := hX.2.1; omega
      have eK : actK kd n = [(x.2, kN kd, kG kd)] := by unfold actK; rw [hx]; dsimp only; rw [x1]
      rw [eK] at hQ
      have hb : bG μ x.2 (wd μ 0 k (48 + i)) := (hX.2.2 i x x1).2
      have e12 : 12 * nI dp + nI l0.length = nI (12 * dp + l0.length) := by rw [show (12 : Int32) = nI 12 from rfl, pk_mul, nI_add]
      have hv : vp_in (nI (12 * dp + l0.length)) 252 := vp_in_nI (by omega) (by decide)
      refine ⟨fun _ => S_get (w := 0) (k := k) (f := 48 + i) rfl rfl (nI_add 48 i) (by decide) (by omega) (by omega) ?_, fun h9 => absurd h9 (nI_m1 (by omega))⟩
      rw [e12, nI_clamp (show 12 * dp + l0.length < 2 ^ 31 by omega)]
      refine ⟨hv, fun μ5 e5 => S_get (w := 0) (k := k) (f := 0) rfl rfl rfl (by decide) (by omega) (by decide) ⟨hv, fun μ8 e8 => S_get (w := 0) (k := k) (f := 2) rfl rfl rfl (by decide) (by omega) (by decide) ⟨hv, fun μ11 e11 => S_get (w := 0) (k := k) (f := 1) rfl rfl rfl (by decide) (by omega) (by decide) ?_⟩⟩⟩
      have g5 : fr [49, 50, 51] μ μ5 := by rw [e5]; exact fr.refl.sA (by decide)
      have g8 : fr [49, 50, 51] μ μ8 := by rw [e8]; exact g5.sA (by decide)
      have g11 : fr [49, 50, 51] μ μ11 := by rw [e11]; exact g8.sA (by decide)
      rw [(e1 g5).2.1] at e8
      rw [(e1 g8).2.2] at e11
      rw [(e1 g11).1, nI_1]
      have a49 : ∀ q, mA μ11 49 q = if q = 12 * dp + l0.length then wd μ 0 k (48 + i) else mA μ 49 q := fun q => by
        rw [e11, mA_o (by decide), e8, mA_o (by decide), e5]
        by_cases hq : q = 12 * dp + l0.length
        · rw [if_pos hq, hq, mA_s]
        · rw [if_neg hq, mA_i hq]
      have a50 : ∀ q, mA μ11 50 q = if q = 12 * dp + l0.length then kN kd else mA μ 50 q := fun q => by
        rw [e11, mA_o (by decide), e8]
        by_cases hq : q = 12 * dp + l0.length
        · rw [if_pos hq, hq, mA_s]
        · rw [if_neg hq, mA_i hq, e5, mA_o (by decide)]
      have a51 : ∀ q, mA μ11 51 q = if q = 12 * dp + l0.length then kG kd else mA μ 51 q := fun q => by
        rw [e11]
        by_cases hq : q = 12 * dp + l0.length
        · rw [if_pos hq, hq, mA_s]
        · rw [if_neg hq, mA_i hq, e8, mA_o (by decide), e5, mA_o (by decide)]
      have b15 : mA μ11 15 = mA μ 15 := g11.eA (by decide)
      have key := M_acts_l hdp hWd f (kA kd) (l0 ++ [(x.2, kN kd, kG kd)]) μ11 h2 hab (by rw [List.length_append]; show l0.length + 1 + f ≤ 12; omega) (hW.ext (fun f _ => by rw [g11.eA (by decide)]) fun t y hb => bG_eq b15 hb) (fun j t hj => ?_) (hf.trans g11) (fun q hq => ?_) (n := n) (Q := Q) fun μ' m1 m2 m3 => ?_
      · rw [List.length_append] at key
        exact key
      · rcases app_get hj with ⟨j1, j2⟩ | ⟨j1, j2⟩
        · obtain ⟨c1, c2, c3⟩ := hA j t j1
          rw [a49, a50, a51, if_neg (by omega), if_neg (by omega), if_neg (by omega)]
          exact ⟨bG_eq b15 c1, c2, c3⟩
        · subst j1; subst j2
          rw [a49, a50, a51, if_pos rfl, if_pos rfl, if_pos rfl]
          exact ⟨bG_eq b15 hb, rfl, rfl⟩
      · obtain ⟨o1, o2, o3⟩ := ho q hq
        rw [a49, a50, a51, if_neg (by omega), if_neg (by omega), if_neg (by omega)]
        exact ⟨o1, o2, o3⟩
      · rw [List.append_assoc] at m3 ⊢
        exact hQ μ' m1 m2 m3
end
