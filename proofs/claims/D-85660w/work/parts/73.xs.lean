set_option maxRecDepth 100000
/-! ===== X: StringBuilder, String ===== -/
def xs_wA (ξ : xs_X) (j : Nat) (f : Nat → Int32) : xs_X := (ξ.1, ξ.2.1, xs_r ξ.2.2.1 j f, ξ.2.2.2)
theorem wA_sc {ξ : xs_X} {i j : Nat} {f : Nat → Int32} (h : i ≠ j) : sc ξ (xs_wA ξ j f) i := ⟨rfl, rfl, by show xs_r ξ.2.2.1 j f i = _; unfold xs_r; rw [if_neg h], rfl, rfl⟩
theorem wA_s {ξ : xs_X} {j : Nat} {f : Nat → Int32} : xA (xs_wA ξ j f) j = f := by show xs_r ξ.2.2.1 j f j = f; unfold xs_r; rw [if_pos rfl]
/-- a StringBuilder (role i, at b), its bytes (role j, at v): the letters L, so many -/
def SB (D : xs_D) (ξ : xs_X) (i j b v cnt : Nat) (L : Nat → Int32) : Prop := rl D i b 34 ∧ rl D j v 101 ∧ i ≠ j ∧ xR ξ i 0 = some v ∧ xI ξ i 1 = 0 ∧ xI ξ i 3 = nI cnt ∧ xN ξ j = 8 ∧ ∀ k, k < cnt → xA ξ j k = L k
theorem XD.has {D D1 : xs_D} (h : XD D D1) {j : Nat} (hj : D.2.2 j) : D1.2.2 j := (h j _ _ (rl_of hj)).1
theorem SB.up {D D1 : xs_D} {ξ ξ1 : xs_X} {i j b v cnt : Nat} {L : Nat → Int32} (h : SB D ξ i j b v cnt L) (hD : XD D D1) (hi : sc ξ ξ1 i) (hj : sc ξ ξ1 j) : SB D1 ξ1 i j b v cnt L := by
  obtain ⟨h1, h2, h3, h4, h5, h6, h7, h8⟩ := h
  exact ⟨hD _ _ _ h1, hD _ _ _ h2, h3, by rw [hi.2.1]; exact h4, by rw [hi.1]; exact h5, by rw [hi.1]; exact h6, hj.2.2.2.2.trans h7, fun k hk => by rw [hj.2.2.1]; exact h8 k hk⟩
section
variable {G : am_G} {d : Nat} {F : am_H} {D : xs_D} {ξ : xs_X} {σ : am_S}
theorem x_cpi (H : XS F D ξ σ) {i j a b τ n0 n1 s p q : Nat} {ty : FieldType} {x y z : Int32} {K : am_S → Prop} (hi : rl D i a (100 + τ)) (hj : rl D j b (100 + τ)) (hτ : τ < 4) (hn0 : xN ξ i = n0) (hn1 : xN ξ j = n1) (hx : x = nI s) (hy : y = nI p) (hz : z = nI q) (h0 : s + q ≤ n0) (h1 : p + q ≤ n1) (hb : n0 < 2 ^ 31 ∧ n1 < 2 ^ 31) (hf : ∀ k, k < q → fits ty (.int (xA ξ i (s + k))) = true) (h : ∀ σ', XS F D (xs_wA ξ j (va_cpy (xA ξ i) (xA ξ j) s p q)) σ' → σ'.2 = σ.2 → K σ') : f_cpi σ (some a) x (some b) y z τ ty K := by
  subst hx; subst hy; subst hz
  have e0 := H.ari hi.1 hi.2.2 hτ
  have e1 := H.ari hj.1 hj.2.2 hτ
  rw [hi.2.1] at e0
  rw [hj.2.1] at e1
  unfold f_cpi f_a
  dsimp only
  rw [e0]
  dsimp only
  refine ⟨rfl, ?_⟩
  rw [e1]
  dsimp only
  refine ⟨rfl, nI_pos (by omega), nI_pos (by omega), nI_pos (by omega), ?_, ?_, ?_, ?_⟩
  · rw [nI_clamp (by omega), nI_clamp (by omega), hn0]; exact h0
  · rw [nI_clamp (by omega), nI_clamp (by omega), hn1]; exact h1
  · rw [nI_clamp (by omega), nI_clamp (by omega)]
    exact hf
  · rw [nI_clamp (by omega), nI_clamp (by omega), nI_clamp (by omega)]
    refine h _ ?_ rfl
    have := H.set (i := j) (e := .inl (τ, xN ξ j, .inl (va_cpy (xA ξ i) (xA ξ j) s p q))) (ξ' := xs_wA ξ j (va_cpy (xA ξ i) (xA ξ j) s p q)) hj.1 (by
      rw [hj.2.2]
      unfold xs_E
      rw [if_neg (by omega), if_neg (by omega), if_pos (by omega), Nat.add_sub_cancel_left, wA_s]
      rfl) fun k hk => (wA_sc hk).E
    rw [hj.2.1] at this
    exact this
/-- a new StringBuilder -/
theorem X_sbnew (H : XS F D ξ σ) (hT : TD D) (hG : GK G) {m : Nat} (hcr : cr G (m + 3) σ) {K : Nat → am_S → Prop} (h : ∀ D1 ξ1 σ1 i j b v, XD D D1 → TD D1 → ¬ D.2.2 i → ¬ D.2.2 j → SB D1 ξ1 i j b v 0 (fun _ => 0) → XS F D1 ξ1 σ1 → (∀ r, D.2.2 r → sc ξ ξ1 r) → cr G m σ1 → K b σ1) : f_new G σ 34 4 tyJ3 (fun n1 σ2 => W_J3_init G (d + 2) n1 8 σ2 (fun σ4 => K n1 σ4)) := by
  refine x_new (c := 34) (j := 1) (m := m + 2) H hT ok_34 (by decide) (hcr.le (by omega)) ⟨by omega, by omega⟩ rfl fun D1 ξ1 σ1 i xd1 td1 ni r1 _ H1 sc1 i1 rr1 cr1 hF1 => ?_
  refine W_J3_init_f (W_J2_init_f (X_sti hG ⟨fun c => absurd c (by decide), fun _ => ?_⟩))
  refine x_nai (n := 8) (j := 2) (m := m) H1 td1 rfl (by decide) cr1 ⟨by omega, by omega, by omega⟩ fun D2 ξ2 σ2 j xd2 td2 nj r2 _ H2 sc2 n2 a2 cr2 hF2 => ?_
  have hij : i ≠ j := fun e => nj (e ▸ r1.1)
  refine x_pr H2 (xd2 _ _ _ r1) (by decide) fun σ3 H3 e3 => x_p H3 (xd2 _ _ _ r1) (by decide) fun σ4 H4 e4 => ?_
  have s4 : ∀ r, r ≠ i → sc ξ2 (xs_sI (xs_sR ξ2 i 0 (some σ1.2.1)) i 1 0) r := fun r hr => (sR_sc hr).trans (sI_sc hr)
  refine h D2 _ σ4 i j σ.2.1 σ1.2.1 (xd1.trans xd2) td2 ni (fun hj => nj (xd1.has hj)) ⟨xd2 _ _ _ r1, r2, hij, ?_, sI_s, ?_, ?_, fun k hk => absurd hk (by omega)⟩ H4 (fun r hr => ((sc1 r hr).trans (sc2 r (xd1.has hr))).trans (s4 r fun e => ni (e ▸ hr))) ((cr2.eq e3).eq e4)
  · show xR (xs_sR ξ2 i 0 (some σ1.2.1)) i 0 = _
    exact sR_s
  · rw [sI_o (by decide)]
    show xI ξ2 i 3 = nI 0
    rw [(sc2 i r1.1).1, i1]
    rfl
  · rw [(s4 j (Ne.symm hij)).2.2.2.2]
    exact n2
theorem by_ens : ∀ c, c < 8 → (nI (c + 1) - ((nI 8) >>> ((0 : Int32) &&& 31))) ≤ 0 := by decide
theorem by_nar : ∀ c, c < 128 → f_nar 1 ((Int32.toInt8 (nI c)).toInt32) = nI c := by decide +kernel
theorem by_u16 : ∀ c, c < 256 → ((Int32.toUInt32 (nI c)) % 65536).toInt32 = nI c := by decide +kernel
/-- a letter more -/
theorem X_append (H : XS F D ξ σ) (hG : GK G) {i j b v cnt k : Nat} {L : Nat → Int32} (hs : SB D ξ i j b v cnt L) (hc : cnt < 7) (hk : k < 128) {x : Int32} (hx : x = nI k) {Q : Option Nat → am_S → Prop} (h : ∀ σ' ξ', XS F D ξ' σ' → σ'.2 = σ.2 → (∀ r, r ≠ i → r ≠ j → sc ξ ξ' r) → SB D ξ' i j b v (cnt + 1) (upd L cnt (nI k)) → Q (some b) σ') : W_J3_append G (d + 3) b x σ Q := by
  obtain ⟨h1, h2, h3, h4, h5, h6, h7, h8⟩ := hs
  subst hx
  refine W_J3_append_f (x_o H h1 (by decide) (W_J2_append_f (x_gi H h1 (by decide) h6 (x_o H h1 (by decide) (W_J2_ensureCapacityInternal_f (x_gr H h1 (by decide) h4 (x_al H h2 h7 (x_gi H h1 (by decide) h5 ⟨fun _ => ?_, fun c => absurd ?_ c⟩))))))))
  · refine x_o H h1 (by decide) (W_J2_isLatin1_f (X_sti hG ⟨fun c => absurd c (by decide), fun _ => x_gi H h1 (by decide) h5 ⟨fun c => absurd rfl c, fun _ => ?_⟩⟩))
    refine ⟨fun c => absurd c (by decide), fun _ => W_J9_canEncode_f ⟨fun c => ?_, fun _ => ⟨fun c => absurd c (by decide), fun _ => ?_⟩⟩⟩
    · have := (nI_ltI (show 255 < 2 ^ 31 by decide) (show k < 2 ^ 31 by omega)).mp c
      omega
    · refine x_gr H h1 (by decide) h4 (x_gi H h1 (by decide) h6 (x_p H h1 (by decide) fun σ2 H2 e2 => ?_))
      have s2 : ∀ r, r ≠ i → sc ξ (xs_sI ξ i 3 (nI cnt + 1)) r := fun r hr => sI_sc hr
      refine x_si H2 h2 (by decide) ((s2 j (Ne.symm h3)).2.2.2.2.trans h7) rfl (show cnt < 8 by omega) (by decide) fun σ3 H3 e3 => ?_
      rw [by_nar k hk] at H3
      refine h σ3 _ H3 (e3.trans e2) (fun r hi hj => (s2 r hi).trans (sA_sc hj)) ⟨h1, h2, h3, ?_, ?_, ?_, ?_, fun q hq => ?_⟩
      · rw [(sA_sc h3).2.1]; exact h4
      · rw [(sA_sc h3).1, sI_o (by decide)]; exact h5
      · rw [(sA_sc h3).1, sI_s]; exact nI_1 cnt
      · show xN (xs_sI ξ i 3 (nI cnt + 1)) j = 8
        exact (s2 j (Ne.symm h3)).2.2.2.2.trans h7
      · by_cases hqc : q = cnt
        · rw [hqc, sA_s, pk_us]
        · rw [sA_o hqc, (s2 j (Ne.symm h3)).2.2.1, pk_un hqc]
          exact h8 q (by omega)
  · rw [nI_1]
    exact by_ens cnt (by omega)
theorem X_length (H : XS F D ξ σ) {i j b v cnt : Nat} {L : Nat → Int32} (hs : SB D ξ i j b v cnt L) {Q : Int32 → am_S → Prop} (h : Q (nI cnt) σ) : W_J3_length G (d + 1) b σ Q := W_J3_length_f (x_o H hs.1 (by decide) (W_J2_length_f (x_gi H hs.1 (by decide) hs.2.2.2.2.2.1 h)))
theorem by_fits : ∀ c, c < 128 → fits .byte (.int (nI c)) = true := by decide +kernel
/-- its String -/
theorem X_toString (H : XS F D ξ σ) (hT : TD D) (hG : GK G) {i j b v cnt m : Nat} {L : Nat → Int32} (hs : SB D ξ i j b v cnt L) (hc : cnt ≤ 7) (hL : ∀ k, k < cnt → ∃ c, c < 128 ∧ L k = nI c) (hcr : cr G (m + 3) σ) {Q : Option Nat → am_S → Prop} (h : ∀ F' ξ' σ' a, FE F F' → XS F' D ξ' σ' → (∀ r, D.2.2 r → sc ξ ξ' r) → stF G F' a cnt L → cr G m σ' → Q (some a) σ') : W_J3_toString G (d + 6) b σ Q := by
  refine W_J3_toString_f (x_new (c := 35) (j := 1) (m := m + 2) H hT ok_35 (by decide) (hcr.le (by omega)) ⟨by omega, by omega⟩ rfl fun D1 ξ1 σ1 i3 xd1 td1 ni3 r3 _ H1 sc1 i1 rr1 cr1 hF1 => ?_)
  have hz : am_z G ≤ σ.2.1 := hcr.2.2
  have hs1 := hs.up xd1 (sc1 i hs.1.1) (sc1 j hs.2.1.1)
  obtain ⟨h1, h2, h3, h4, h5, h6, h7, h8⟩ := hs1
  refine W_J4_init_f (W_J4_init_2_f (x_o H1 h1 (by decide) (W_J2_getValue_f (x_gr H1 h1 (by decide) h4 (x_o H1 h1 (by decide) (X_length H1 (hs.up xd1 (sc1 i hs.1.1) (sc1 j hs.2.1.1)) (x_o H1 h1 (by decide) (W_J2_isLatin1_f (X_sti hG ⟨fun c => absurd c (by decide), fun _ => x_gi H1 h1 (by decide) h5 ⟨fun c => absurd rfl c, fun _ => ?_⟩⟩)))))))))
  refine ⟨fun c => absurd c (by decide), fun _ => x_p H1 r3 (by decide) fun σ2 H2 e2 => ?_⟩
  have ij : i ≠ i3 := fun e => ni3 (e ▸ hs.1.1)
  have jj : j ≠ i3 := fun e => ni3 (e ▸ hs.2.1.1)
  have s2 : ∀ r, r ≠ i3 → sc ξ1 (xs_sI ξ1 i3 1 0) r := fun r hr => sI_sc hr
  have n2 : xN (xs_sI ξ1 i3 1 0) j = 8 := (s2 j jj).2.2.2.2.trans h7
  refine W_J8_copyOfRange_f ⟨fun c => absurd rfl c, fun _ => x_al H2 h2 n2 ⟨fun c => ?_, fun _ => ?_⟩⟩
  · have := (nI_eq (show cnt < 2 ^ 31 by omega) (show 8 < 2 ^ 31 by decide)).mp c
    omega
  have e0 : nI cnt - 0 = nI cnt := by
    show nI cnt - nI 0 = _
    rw [pk_sub (by omega)]; rfl
  refine W_J8_copyOfRangeByte_f (W_J8_checkLength_f ⟨fun _ => ?_, fun c => absurd (nI_le (a := 0) (b := cnt) (Nat.zero_le _) (by omega)) c⟩)
  rw [e0]
  refine x_nai (n := cnt) (j := 2) (m := m) H2 td1 rfl (by decide) (cr1.eq e2) ⟨by omega, by omega, by omega⟩ fun D3 ξ3 σ3 j3 xd3 td3 nj3 r4 _ H3 sc3 n3 a3 cr3 hF3 => ?_
  have n3j : xN ξ3 j = 8 := (sc3 j h2.1).2.2.2.2.trans n2
  refine x_al H3 (xd3 _ _ _ h2) n3j (W_J7_min_f ⟨fun c => ?_, fun c => absurd ?_ c⟩)
  · have hjj : j ≠ j3 := fun e => nj3 (e ▸ h2.1)
    have hij3 : i3 ≠ j3 := fun e => nj3 (e ▸ r3.1)
    have aj : xA ξ3 j = xA ξ1 j := by rw [(sc3 j h2.1).2.2.1, (s2 j jj).2.2.1]
    refine x_cpi (s := 0) (p := 0) (q := cnt) H3 (xd3 _ _ _ h2) r4 (by decide) n3j n3 rfl rfl rfl (by omega) (by omega) ⟨by decide, by omega⟩ (fun k hk => ?_) fun σ4 H4 e4 => ?_
    · rw [aj, Nat.zero_add, h8 k hk]
      obtain ⟨c, hc, e⟩ := hL k hk
      rw [e]
      exact by_fits c hc
    · refine x_pr H4 (xd3 _ _ _ r3) (by decide) fun σ5 H5 e5 => ?_
      have s5 : ∀ r, r ≠ i3 → r ≠ j3 → sc ξ3 (xs_sR (xs_wA ξ3 j3 (va_cpy (xA ξ3 j) (xA ξ3 j3) 0 0 cnt)) i3 0 (some σ2.2.1)) r := fun r h1 h2 => (wA_sc h2).trans (sR_sc h1)
      obtain ⟨H6, hF6⟩ := H5.frz r4 (fun _ _ => tf_no (by decide))
      have r3' : rl (D3.1, D3.2.1, fun q => q ≠ j3 ∧ D3.2.2 q) i3 σ.2.1 35 := ⟨⟨hij3, (xd3 _ _ _ r3).1⟩, (xd3 _ _ _ r3).2.1, (xd3 _ _ _ r3).2.2⟩
      obtain ⟨H7, hF7⟩ := H6.frz r3' (fun _ _ => tf_no (by decide))
      have hne : σ2.2.1 ≠ σ.2.1 := by
        rw [e2]
        exact Nat.ne_of_gt (H1.2.2.2 _ _ ((H1.2.1 i3 r3.1).1.trans rfl) |> fun h => by rw [r3.2.1] at h; exact h)
      refine h _ _ _ σ.2.1 ((fzF_FE hF6).trans (fzF_FE hF7)) (H7.cong ((XD.drop ((xd1.trans xd3)) fun hj => nj3 (xd1.has hj)).drop ni3)) (fun r hr => ?_) ?_ (((cr3.eq e4).eq e5))
      · have hr1 := xd1.has hr
        exact (((sc1 r hr).trans (s2 r fun e => ni3 (e ▸ hr))).trans (sc3 r hr1)).trans (s5 r (fun e => ni3 (e ▸ hr)) fun e => nj3 (e ▸ hr1))
      · refine ⟨_, σ2.2.1, va_cpy (xA ξ3 j) (xA ξ3 j3) 0 0 cnt, fzF_s, ?_, ?_, ?_, fun k hk => ?_, hz⟩
        · show (if xs_rf 35 0 = true then va_rf (xR (xs_sR (xs_wA ξ3 j3 (va_cpy (xA ξ3 j) (xA ξ3 j3) 0 0 cnt)) i3 0 (some σ2.2.1)) i3 0) else _) = _
          rw [if_pos (by decide), sR_s]
        · show (if xs_rf 35 1 = true then _ else Value.int (xI ξ3 i3 1)) = _
          rw [if_neg (by decide), (sc3 i3 r3.1).1, sI_s]
        · have e9 : fzF (fzF F σ2.2.1 (xs_E (100 + 1) j3 (xs_sR (xs_wA ξ3 j3 (va_cpy (xA ξ3 j) (xA ξ3 j3) 0 0 cnt)) i3 0 (some σ2.2.1)))) σ.2.1 (xs_E 35 i3 (xs_sR (xs_wA ξ3 j3 (va_cpy (xA ξ3 j) (xA ξ3 j3) 0 0 cnt)) i3 0 (some σ2.2.1))) σ2.2.1 = some (xs_E (100 + 1) j3 (xs_sR (xs_wA ξ3 j3 (va_cpy (xA ξ3 j) (xA ξ3 j3) 0 0 cnt)) i3 0 (some σ2.2.1))) := by
            unfold fzF
            rw [if_neg hne, if_pos rfl]
          rw [e9]
          unfold xs_E
          rw [if_neg (by decide), if_neg (by decide), if_pos (by decide)]
          show some (Sum.inl (100 + 1 - 100, xN ξ3 j3, Sum.inl (xA (xs_wA ξ3 j3 (va_cpy (xA ξ3 j) (xA ξ3 j3) 0 0 cnt)) j3))) = _
          rw [wA_s, n3]
        · show (if 0 ≤ k ∧ k < 0 + cnt then xA ξ3 j (0 + (k - 0)) else _) = _
          rw [if_pos ⟨Nat.zero_le _, by omega⟩, aj, show 0 + (k - 0) = k by omega]
          exact h8 k hk
  · show nI cnt < nI 8 - nI 0
    rw [pk_sub (by omega)]
    exact nI_lt (by omega) (by decide)
end
