set_option maxRecDepth 100000
section
variable {G : am_G} {ρ : mm_F} {C : Ctx} {d g : Nat}
theorem actK_some {kd : Kd} {n : Int32} {i : Nat} (hx : ixA kd n = some i) : actK kd n ≠ [] := by
  obtain ⟨x, x1, x2⟩ := ixf_some hx
  unfold actK
  rw [hx]
  dsimp only
  rw [x1]
  exact fun h => by cases h
theorem actK_none {kd : Kd} {n : Int32} (hx : ixA kd n = none) : actK kd n = [] := by unfold actK; rw [hx]
/-- one does an act: first it is looked for -/
theorem M_c172_l {s : RSt} {μ : mm_S} {dp c m : Nat} (H : MR C s μ) {Q : Int32 → mm_S → Prop} : ∀ (f : Nat) (o : Option Nat) (x : Int32), ac s.2.1 f o → (∀ k, o = some k → k < s.2.1.length) → (x = 0 ∨ x = 1) → ((x = 1 ∨ acts s.2.1 (nI m) f o ≠ []) → B_X6_calls_172 G ρ (d + 2) (nI dp) (nI c) (nI m) 1 (-1) μ Q) → (x = 0 → acts s.2.1 (nI m) f o = [] → B_X6_calls_172 G ρ (d + 2) (nI dp) (nI c) (nI m) 0 (-1) μ Q) → B_X6_calls_172 G ρ (d + 2) (nI dp) (nI c) (nI m) x (oI o) μ Q
  | f, none, x, _, _, hx, hy, hn => by
    rcases hx with hx | hx
    · have h0 := hn hx acts_none
      rw [hx]; exact h0
    · have h0 := hy (Or.inl hx)
      rw [hx]; exact h0
  | 0, some _, _, h, _, _, _, _ => h.elim
  | f + 1, some k, x, h, hk, hx, hy, hn => by
    obtain ⟨kd, h1, h2⟩ := ac_some h
    have hW := H.1.1
    have hWd := H.1.2
    have hkL := hk k rfl
    have hL12 := hW.2.1
    have hK := hW.2.2 k kd h1
    have hab : ∀ u, kA kd = some u → u < s.2.1.length := (hWd.2.2.2.1 k kd h1).2.1
    have e1 : wd μ 0 k 1 = oI (kA kd) := hK.2.1
    rw [acts_some h1] at hy hn
    refine B_X6_calls_172_f ⟨fun h9 => absurd h9 (nI_m1 (by omega)), fun _ => ⟨fun h9 => ?_, fun h9 => ?_⟩⟩
    · have hx1 : x = 1 := hx.resolve_left h9
      refine S_get (w := 0) (k := k) (f := 1) rfl rfl rfl (by decide) (by omega) (by decide) ?_
      rw [e1]
      exact M_c172_l H f _ 1 h2 hab (Or.inr rfl) (fun _ => hy (Or.inl hx1)) fun h8 => absurd h8 (by decide)
    · refine K_actOf (k := k) rfl rfl (by decide) (by omega) hK ⟨fun h8 => S_get (w := 0) (k := k) (f := 1) rfl rfl rfl (by decide) (by omega) (by decide) ?_, fun h8 => S_get (w := 0) (k := k) (f := 1) rfl rfl rfl (by decide) (by omega) (by decide) ?_⟩
      · have hno : ixA kd (nI m) = none := by
          cases hi : ixA kd (nI m) with
          | none => rfl
          | some i =>
            rw [hi] at h8
            obtain ⟨y, y1, -⟩ := ixf_some hi
            have := get_lt y1
            have := hK.2.2.2.2.2.2.2.2.1
            exact absurd h8 (nI_m1 (by omega))
        rw [actK_none hno, List.nil_append] at hy hn
        rw [e1]
        exact M_c172_l H f _ 0 h2 hab (Or.inl rfl) (fun h7 => hy (h7.elim (fun h6 => absurd h6 (by decide)) Or.inr)) fun _ h7 => hn h9 h7
      · rw [e1]
        refine M_c172_l H f _ 1 h2 hab (Or.inr rfl) (fun _ => hy (Or.inr ?_)) fun h8 => absurd h8 (by decide)
        cases hi : ixA kd (nI m) with
        | none => rw [hi] at h8; exact absurd rfl h8
        | some i =>
          intro h7
          exact actK_some hi (List.append_eq_nil_iff.mp h7).1
/-- an act is done by a creature -/
theorem M_goD (ih : GmP G ρ C g) {s : RSt} {μ : mm_S} {lg : Bool} {dp c : Nat} {n : Int32} {ab : List (Term × Int32 × Int32)} {v last : Int32} {b : Term} {nd : Nat → Int32} {txt : Nat} {Qg P : Int32 → mm_S → Prop} (H : MR C s μ) (hg : s.1 ≤ g) (h54 : mI μ 54 = 0) (h42 : mI μ 42 = 0) (hdp : dp ≤ 20) (step : ∀ (last2 : Int32) (s2 : RSt) (μ2 : mm_S), MR C s2 μ2 → s2.1 ≤ g → RMf dp μ μ2 → mA μ2 45 dp = last2 → mI μ2 54 = 0 → mI μ2 42 = 0 → GmQ C dp μ nd txt Qg (go C g lg dp c n ab v last2 b s2) → P 0 μ2) (P2 : ∀ μ', Qg 2 μ' → P 2 μ') {c' m : Nat} (hc' : c' < cN C) (hl' : cL C c' = true) (hd : 600 + (20 - dp) * 30 ≤ d + 8) (hQ : GmQ C dp μ nd txt Qg (goC C g lg dp c n ab v last b s c' (nI m) 0 (acts s.2.1 (nI m) 12 (some (cK C c'))))) : B_X6_calls_172 G ρ (d + 4 + 1) (nI dp) (nI c') (nI m) 0 (mA μ 35 (Int32.toNatClampNeg (nI c'))) μ (fun v μ' => (v = 0 → P 2 μ') ∧ (¬ v = 0 → P 0 μ')) := by
  have hc40 := H.2.2.1.2.1
  obtain ⟨k1, k2⟩ := H.2.2.1.2.2.2 c' hc' hl'
  have hL12 := H.1.1.2.1
  rw [nI_clamp (show c' < 2 ^ 31 by omega), k1]
  have hac := H.1.2.2.1 _ k2
  refine M_c172_l (d := d + 3) H 12 (some (cK C c')) 0 hac (fun k hk => by cases hk; exact k2) (Or.inl rfl) (fun h9 => ?_) fun _ he => ?_
  · have hne : acts s.2.1 (nI m) 12 (some (cK C c')) ≠ [] := h9.elim (fun h => absurd h (by decide)) id
    refine B_X6_calls_172_f ⟨fun _ => ⟨fun _ => ⟨fun h8 => ?_, fun h8 => ?_⟩, fun h8 => absurd h8 (by decide)⟩, fun h8 => absurd rfl h8⟩
    · have hd20 : ¬ dp = 20 := fun e => h8 (by rw [e]; rfl)
      rw [nI_1]
      refine M_opens (d := d) H hc' hl' (by omega) fun μ1 H1 g1 s1 F1 a47 A1 => ?_
      cases hA : acts s.2.1 (nI m) 12 (some (cK C c')) with
      | nil => exact absurd hA hne
      | cons t l =>
        rw [hA] at hQ A1
        have r1 : RMf dp μ μ1 := RMf.ofS g1 s1
        have hB := M_goC hg step P2 hd20 hQ
        exact M_body (d := d + 3) ih H1 hg (at_ := 0) (l := t :: l) (t := t) hc' hl' F1 A1 a47 rfl (by omega) (by rw [g1.eI (by decide)]; exact h54) (by rw [g1.eI (by decide)]; exact h42) (by omega) ((hB.up r1).nar)
    · have hd20 : dp = 20 := (nI_eq (a := dp) (b := 20) (by omega) (by decide)).mp h8
      refine W_X6_fails_f fun μ1 e1 => ⟨rfl, fun _ => P2 μ1 ?_, fun h9 => absurd rfl h9⟩
      cases hA : acts s.2.1 (nI m) 12 (some (cK C c')) with
      | nil => exact absurd hA hne
      | cons t l =>
        rw [hA] at hQ
        have hQ' : GmQ C dp μ nd txt Qg (if dp = 20 then ((2, 1005, .thrown), last, s) else goB last (fun x s' => go C g lg dp c n ab v x b s') (go C g false (dp + 1) c' (nI m) l 0 0 t.1 (noteR C s c' (nI m) t))) := hQ
        rw [if_pos hd20] at hQ'
        exact M_fail H h54 h42 hQ' e1
  · rw [he] at hQ
    refine B_X6_calls_172_f ⟨fun _ => ⟨fun h8 => absurd rfl h8, fun _ => W_X6_fails_f fun μ1 e1 => ⟨rfl, fun _ => P2 μ1 (M_fail H h54 h42 hQ e1), fun h9 => absurd rfl h9⟩⟩, fun h8 => absurd rfl h8⟩
/-- what is above is done -/
theorem M_up (ih : GmP G ρ C g) {s : RSt} {μ : mm_S} {lg : Bool} {dp c at_ : Nat} {n : Int32} {l : List (Term × Int32 × Int32)} {v last : Int32} {b : Term} {nd : Nat → Int32} {txt : Nat} {Qg P : Int32 → mm_S → Prop} {t0 : Term × Int32 × Int32} (H : MR C s μ) (hg : s.1 ≤ g) (h54 : mI μ 54 = 0) (h42 : mI μ 42 = 0) (hdp : dp ≤ 20) (hc : c < cN C) (hl : cL C c = true) (hF : FM μ dp c v last) (hA : FA μ dp n l) (h47 : mA μ 47 dp = nI at_) (ht : l[at_]? = some t0) (step : ∀ (last2 : Int32) (s2 : RSt) (μ2 : mm_S), MR C s2 μ2 → s2.1 ≤ g → RMf dp μ μ2 → mA μ2 45 dp = last2 → mI μ2 54 = 0 → mI μ2 42 = 0 → GmQ C dp μ nd txt Qg (go C g lg dp c n (l.drop (at_ + 1)) v last2 b s2) → P 0 μ2) (P2 : ∀ μ', Qg 2 μ' → P 2 μ') (hd : 600 + (20 - dp) * 30 ≤ d + 8) (hQ : GmQ C dp μ nd txt Qg (match l.drop (at_ + 1) with | [] => go C g lg dp c n (l.drop (at_ + 1)) v 0 b s | _ :: _ => goC C g lg dp c n (l.drop (at_ + 1)) v last b s c n v (l.drop (at_ + 1)))) : W_X6_up G ρ (d + 4 + 1) (nI dp) μ (fun v μ' => (v = 0 → P 2 μ') ∧ (¬ v = 0 → P 0 μ')) := by
  have hat := get_lt ht
  have hl12 := hA.2.1
  have v1 : vp_in (nI dp) 21 := vp_in_nI (by omega) (by decide)
  refine W_X6_up_f ?_
  rw [nI_clamp (show dp < 2 ^ 31 by omega), h47, hA.1, nI_1]
  refine ⟨v1, v1, fun hne => ?_, fun he => ⟨v1, fun μ1 e1 => ⟨fun h9 => absurd h9 (by decide), fun _ => ?_⟩⟩⟩
  · have hlt : at_ + 1 < l.length := Nat.lt_of_le_of_ne (by omega) fun e => hne (by rw [e])
    obtain ⟨t, ht'⟩ : ∃ t, l[at_ + 1]? = some t := ⟨_, List.getElem?_eq_getElem hlt⟩
    have hdr : l.drop (at_ + 1) = t :: l.drop (at_ + 1 + 1) := by
      rw [List.drop_eq_getElem_cons hlt]
      congr 1
      have := List.getElem?_eq_getElem hlt
      rw [this] at ht'
      cases ht'
      rfl
    have hQ1 : GmQ C dp μ nd txt Qg (goC C g lg dp c n (l.drop (at_ + 1)) v last b s c n v (t :: l.drop (at_ + 1 + 1))) := by
      rw [hdr] at hQ ⊢
      exact hQ
    refine ⟨fun h8 => ?_, fun h8 => ?_⟩
    · have hd20 : ¬ dp = 20 := fun e => h8 (by rw [e]; rfl)
      have hB := M_goC hg step P2 hd20 hQ1
      rw [nI_1]
      refine M_copy (d := d + 4) (by omega) hF hA h47 (fun μ1 g1 s1 F1 A1 a47 => ?_) l.length 0 μ (by omega) fr.refl (fun _ _ => ⟨rfl, rfl, rfl⟩) fun i hi => absurd hi (by omega)
      have r1 : RMf dp μ μ1 := RMf.ofS g1 s1
      exact M_body (d := d + 3) ih (H.fr g1 (by decide)) hg (at_ := at_ + 1) (l := l) (t := t) hc hl F1 A1 a47 ht' (by omega) (by rw [g1.eI (by decide)]; exact h54) (by rw [g1.eI (by decide)]; exact h42) (by omega) ((hB.up r1).nar)
    · have hd20 : dp = 20 := (nI_eq (a := dp) (b := 20) (by omega) (by decide)).mp h8
      refine W_X6_fails_f fun μ1 e1 => ⟨rfl, fun _ => P2 μ1 ?_, fun h9 => absurd rfl h9⟩
      have hQ' : GmQ C dp μ nd txt Qg (if dp = 20 then ((2, 1005, .thrown), last, s) else goB last (fun x s' => go C g lg dp c n (l.drop (at_ + 1)) v x b s') (go C g false (dp + 1) c n (l.drop (at_ + 1 + 1)) v 0 t.1 (noteR C s c n t))) := hQ1
      rw [if_pos hd20] at hQ'
      exact M_fail H h54 h42 hQ' e1
  · have hlen : at_ + 1 = l.length := (nI_eq (by omega) (by omega)).mp he
    have hdr : l.drop (at_ + 1) = [] := List.drop_eq_nil_of_le (by omega)
    have hQ1 : GmQ C dp μ nd txt Qg (go C g lg dp c n (l.drop (at_ + 1)) v 0 b s) := by
      rw [hdr] at hQ ⊢
      exact hQ
    subst e1
    exact step 0 s _ (H.fr (fr.refl.sA (ks := [45]) (by decide)) (by decide)) hg RMf.last mA_s h54 h42 hQ1
end
