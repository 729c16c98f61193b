set_option maxRecDepth 100000
/-- new statics while they come: those so far -/
def FSt (Db : xs_D) (ξb : xs_X) (D : xs_D) (ξ : xs_X) (fs : List Nat) (W : List (Int32 × Int32 × Int32)) (ia r N : Nat) : Prop := XD Db D ∧ TD D ∧ rl D ia r 111 ∧ ¬ Db.2.2 ia ∧ FXo D ξ fs W ∧ (∀ v, v ∈ fs → ¬ Db.2.2 (2000 + v) ∧ 2000 + v ≠ ia) ∧ xN ξ ia = N ∧ (∀ q v : Nat, fs[q]? = some v → xQ ξ ia q = some v) ∧ ∀ q, Db.2.2 q → sc ξb ξ q
section
variable {G : am_G} {d m : Nat} {F : am_H} {Db : xs_D} {ξb : xs_X}
/-- one more static -/
theorem X_fxPut {D : xs_D} {ξ : xs_X} {σ : am_S} (H : XS F D ξ σ) {fs : List Nat} {W : List (Int32 × Int32 × Int32)} {ia r N v : Nat} (hS : FSt Db ξb D ξ fs W ia r N) {D1 : xs_D} {ξ1 : xs_X} {σ1 : am_S} (xd : XD D D1) (td : TD D1) (ni : ¬ D.2.2 (2000 + v)) (ri : rl D1 (2000 + v) v 23) (H1 : XS F D1 ξ1 σ1) (s1 : ∀ q, D.2.2 q → sc ξ ξ1 q) {kn sn y x2 : Int32} (hx2 : x2 = nI fs.length) (hN : fs.length < N) (hN9 : N < 2 ^ 31) {K : am_S → Prop} (hK : ∀ ξ2 σ2, XS F D1 ξ2 σ2 → FSt Db ξb D1 ξ2 (fs ++ [v]) (W ++ [(kn, sn, y)]) ia r N → σ2.2 = σ1.2 → K σ2) : W_X25_init G (d + 1) v kn sn y σ1 (fun σ17 => f_sr σ17 (some r) 11 [23] x2 (some v) (fun σ20 => K σ20)) := by
  obtain ⟨a1, a2, a3, a4, a5, a6, a7, a8, a9⟩ := hS
  have hvi : 2000 + v ≠ ia := fun e => ni (e ▸ a3.1)
  refine W_X25_init_f (x_p H1 ri (by decide) fun σ2 H2 e2 => x_p H2 ri (by decide) fun σ3 H3 e3 => x_p H3 ri (by decide) fun σ4 H4 e4 => ?_)
  have s4 : ∀ q, q ≠ 2000 + v → sc ξ1 (xs_sI (xs_sI (xs_sI ξ1 (2000 + v) 0 kn) (2000 + v) 1 sn) (2000 + v) 2 y) q := fun q hq => ((sI_sc hq).trans (sI_sc hq)).trans (sI_sc hq)
  have n4 : xN (xs_sI (xs_sI (xs_sI ξ1 (2000 + v) 0 kn) (2000 + v) 1 sn) (2000 + v) 2 y) ia = N := ((s4 ia (Ne.symm hvi)).2.2.2.2).trans ((s1 ia a3.1).2.2.2.2.trans a7)
  refine x_sr (n := N) (q := fs.length) H4 (xd _ _ _ a3) (by decide) n4 hx2 hN hN9 (fun b _ => x_k H4 ri (by decide) trivial) fun σ5 H5 e5 => ?_
  have s5 : ∀ q, D.2.2 q → q ≠ ia → sc ξ (xs_sQ (xs_sI (xs_sI (xs_sI ξ1 (2000 + v) 0 kn) (2000 + v) 1 sn) (2000 + v) 2 y) ia fs.length (some v)) q := fun q hq hne => ((s1 q hq).trans (s4 q fun e => ni (e ▸ hq))).trans (sQ_sc hne)
  refine hK _ σ5 H5 ⟨a1.trans xd, td, xd _ _ _ a3, a4, ⟨by rw [List.length_append, List.length_append, a5.1]; rfl, fun q u x h1 h2 => ?_⟩, fun u hu => ?_, n4, fun q u h1 => ?_, fun q hq => (a9 q hq).trans (s5 q (a1.has hq) fun e => a4 (e ▸ hq))⟩ (((e5.trans e4).trans e3).trans e2)
  · rcases getApp h1 with ⟨b1, b2⟩ | ⟨b1, b2⟩
    · rw [List.getElem?_append_left (by rw [← a5.1]; exact b1)] at h2
      obtain ⟨c1, c2, c3, c4⟩ := a5.2 q u x b2 h2
      have hu := s5 (2000 + u) c1.1 (a6 u (List.mem_of_getElem? b2)).2
      exact ⟨xd _ _ _ c1, by rw [hu.1]; exact c2, by rw [hu.1]; exact c3, by rw [hu.1]; exact c4⟩
    · subst b2
      rw [b1, a5.1, List.getElem?_append_right (Nat.le_refl _), Nat.sub_self] at h2
      cases h2
      refine ⟨ri, ?_, ?_, ?_⟩
      · show xI (xs_sI (xs_sI (xs_sI ξ1 (2000 + u) 0 kn) (2000 + u) 1 sn) (2000 + u) 2 y) (2000 + u) 0 = kn
        rw [sI_o (by decide), sI_o (by decide), sI_s]
      · show xI (xs_sI (xs_sI (xs_sI ξ1 (2000 + u) 0 kn) (2000 + u) 1 sn) (2000 + u) 2 y) (2000 + u) 1 = sn
        rw [sI_o (by decide), sI_s]
      · show xI (xs_sI (xs_sI (xs_sI ξ1 (2000 + u) 0 kn) (2000 + u) 1 sn) (2000 + u) 2 y) (2000 + u) 2 = y
        rw [sI_s]
  · rcases List.mem_append.mp hu with hu | hu
    · exact a6 u hu
    · rw [List.mem_singleton.mp hu]
      exact ⟨fun h9 => ni (a1.has h9), hvi⟩
  · rcases getApp h1 with ⟨b1, b2⟩ | ⟨b1, b2⟩
    · rw [sQ_o (by omega), (s4 ia (Ne.symm hvi)).2.2.2.1, (s1 ia a3.1).2.2.2.1]
      exact a8 q u b2
    · rw [b1, b2, sQ_s]
/-- the statics of one kind -/
theorem X_fx74 {w w0 ia r N : Nat} {as fs0 : List Nat} {L : List Kd} {V0 : List (Int32 × Int32 × Int32)} (hW : WX F as L) (hA0 : fAr F w0 fs0) (hV0 : FXo Db ξb fs0 V0) (hl0 : fs0.length < 1000) (hN9 : N < 1000) {k a : Nat} {kd : Kd} (hk : L[k]? = some kd) (ha : as[k]? = some a) {x5 : Int32} {Q : Option Nat → am_S → Prop} {Wf : List (Int32 × Int32 × Int32)} {mf : Nat} (hQ : ∀ D ξ σ fs {x2 x6 : Int32}, XS F D ξ σ → FSt Db ξb D ξ fs Wf ia r N → x2 = nI fs.length → x6 = nI k + 1 → cr G (m + 2 * mf) σ → B_X0_fixedOf_2_57 G (d + 2) (some w0) x2 (some r) (some w) x5 x6 σ Q) : ∀ (s' : List (Int32 × Int32)) (i : Nat) (D : xs_D) (ξ : xs_X) (σ : am_S) (fs : List Nat) (W : List (Int32 × Int32 × Int32)) {x2 x8 : Int32}, i + s'.length = (kS kd).length → (∀ q : Nat, s'[q]? = (kS kd)[i + q]?) → x8 = nI i → XS F D ξ σ → FSt Db ξb D ξ fs W ia r N → x2 = nI fs.length → fs.length + s'.length ≤ N → W ++ s'.map (nfV V0 (kN kd)) = Wf → cr G (m + 2 * (mf + s'.length)) σ → B_X0_fixedOf_2_74 G (d + 2) (some w0) x2 (some r) (some w) x5 (nI k) (some a) x8 σ Q
  | [], i, D, ξ, σ, fs, W, x2, x8, hi, hq, hx8, H, hS, hx2, hN, hWf, hcr => by
    subst hx8
    obtain ⟨f, c3, c4, c5, c6, c7, c8, g3, g4, g5, g6, g7, g8, k1, k2, k3, k4, k5, k6, k7, k8, k9, k10, k11, k12, k13, k14⟩ := hW.2 k kd a hk ha
    have hil : i = (kS kd).length := by rw [← hi]; rfl
    refine B_X0_fixedOf_2_74_f (z_gr H k1 (by decide) k7.1 (z_al H k7.2 ⟨fun _ => ?_, fun c => absurd (nI_le (a := (kS kd).length) (b := i) (by omega) (by omega)) c⟩))
    rw [List.map_nil, List.append_nil] at hWf
    subst hWf
    exact hQ D ξ σ fs H hS hx2 rfl (hcr.le (by simp))
  | s :: s', i, D, ξ, σ, fs, W, x2, x8, hi, hq, hx8, H, hS, hx2, hN, hWf, hcr => by
    subst hx8
    obtain ⟨f, c3, c4, c5, c6, c7, c8, g3, g4, g5, g6, g7, g8, k1, k2, k3, k4, k5, k6, k7, k8, k9, k10, k11, k12, k13, k14⟩ := hW.2 k kd a hk ha
    have hil : i < (kS kd).length := by rw [← hi]; show i < i + (s'.length + 1); omega
    have hs : (kS kd)[i]? = some s := by have := hq 0; rw [Nat.add_zero] at this; exact this.symm
    have hlN : fs.length < N := by have : fs.length + (s'.length + 1) ≤ N := hN; omega
    obtain ⟨u1, u2⟩ := k13 i s hs
    have hS' := hS
    obtain ⟨a1, a2, a3, a4, a5, a6, a7, a8, a9⟩ := hS
    have hV : FXo D ξ fs0 V0 := hV0.up a1 fun v hv => a9 _ (hV0.has hv)
    have hrec : ∀ (y : Int32), nfV V0 (kN kd) s = (kN kd, s.1, y) → ∀ (v : Nat) (D1 : xs_D) (ξ1 : xs_X) (σ1 : am_S), XD D D1 → TD D1 → ¬ D.2.2 (2000 + v) → rl D1 (2000 + v) v 23 → XS F D1 ξ1 σ1 → (∀ q, D.2.2 q → sc ξ ξ1 q) → cr G (m + 2 * (mf + s'.length)) σ1 → W_X25_init G (d + 1) v (kN kd) s.1 y σ1 (fun σ17 => f_sr σ17 (some r) 11 [23] x2 (some v) (fun σ20 => B_X0_fixedOf_2_74 G (d + 2) (some w0) (x2 + 1) (some r) (some w) x5 (nI k) (some a) (nI i + 1) σ20 Q)) := fun y hy v D1 ξ1 σ1 xd td ni ri H1 s1 c1 => X_fxPut H hS' xd td ni ri H1 s1 hx2 hlN (by omega) fun ξ2 σ2 H2 hS2 e2 => by
      refine X_fx74 hW hA0 hV0 hl0 hN9 hk ha hQ s' (i + 1) D1 ξ2 σ2 (fs ++ [v]) (W ++ [(kN kd, s.1, y)]) (by rw [← hi]; show i + 1 + s'.length = i + (s'.length + 1); omega) (fun q => ?_) (nI_1 i) H2 hS2 (by rw [hx2, List.length_append]; exact nI_1 _) ?_ ?_ (c1.eq e2)
      · have := hq (q + 1)
        rw [show i + (q + 1) = i + 1 + q by omega] at this
        exact this
      · rw [List.length_append]
        have : fs.length + (s'.length + 1) ≤ N := hN
        show fs.length + 1 + s'.length ≤ N
        omega
      · rw [← hWf, List.map_cons, hy, List.append_assoc]
        rfl
    refine B_X0_fixedOf_2_74_f (z_gr H k1 (by decide) k7.1 (z_al H k7.2 ⟨fun c => absurd c (nI_ge hil (by omega)), fun _ => z_gi H k1 (by decide) k2 (z_gr H k1 (by decide) k7.1 (z_ai H k7.2 rfl hil (by omega) u1 (X_find2 H hA0 hV hl0 ?_)))⟩))
    refine x_new (c := 23) (j := 1) (m := m + 2 * (mf + s'.length)) H a2 ok_23 (by decide) (hcr.le (by show m + 2 * (mf + s'.length) + 1 ≤ m + 2 * (mf + (s'.length + 1)); omega)) ⟨by omega, by omega⟩ rfl fun D1 ξ1 σ1 ix xd td ni ri i20 H1 s1 z1 z2 c1 hF1 => ?_
    have hix := td.ro ri i20
    subst hix
    refine z_gi H1 k1 (by decide) k2 (z_gr H1 k1 (by decide) k7.1 (z_ai H1 k7.2 rfl hil (by omega) u1 ⟨fun hne => ?_, fun he => ?_⟩))
    · cases hb : (fiX V0 (kN kd) s.1) with
      | none => rw [hb] at hne; exact absurd rfl hne
      | some q =>
        have hq9 : q < V0.length := ixf_lt hb
        obtain ⟨x, hx⟩ : ∃ x, V0[q]? = some x := ⟨_, List.getElem?_eq_getElem hq9⟩
        obtain ⟨v, hv⟩ : ∃ v, fs0[q]? = some v := ⟨_, List.getElem?_eq_getElem (by rw [hV0.1]; exact hq9)⟩
        rw [show (some q).bind (fun q => fs0[q]?) = some v from hv]
        obtain ⟨b1, b2, b3, b4⟩ := (hV.up xd fun v9 hv9 => s1 _ (hV.has hv9)).2 q v x hv hx
        exact x_gi H1 b1 (by decide) b4 (hrec x.2.2 (by unfold nfV; rw [hb]; show (_, _, match V0[q]? with | some x => x.2.2 | none => s.2) = _; rw [hx]) _ D1 ξ1 σ1 xd td ni ri H1 s1 c1)
    · refine z_gr H1 k1 (by decide) k8.1 (z_ai H1 k8.2 rfl hil (by omega) u2 (hrec s.2 ?_ _ D1 ξ1 σ1 xd td ni ri H1 s1 c1))
      unfold nfV
      cases hb : (fiX V0 (kN kd) s.1) with
      | none => rfl
      | some q =>
        exfalso
        have hq9 : q < V0.length := ixf_lt hb
        rw [hb] at he
        have : fs0[q]? = none := he
        rw [List.getElem?_eq_none_iff] at this
        have := hV0.1
        omega
/-- the kinds' statics -/
theorem X_fx57 {w w0 ia r N : Nat} {as fs0 : List Nat} {L : List Kd} {V0 : List (Int32 × Int32 × Int32)} (hW : WX F as L) (hA : kAr F w as) (hA0 : fAr F w0 fs0) (hV0 : FXo Db ξb fs0 V0) (hl0 : fs0.length < 1000) (hL : L.length < 100) (hNe : N = (nfx V0 L).length) (hN9 : N < 1000) {Q : Option Nat → am_S → Prop} (hQ : ∀ D ξ σ fs, XS F D ξ σ → FSt Db ξb D ξ fs (nfx V0 L) ia r N → cr G m σ → Q (some r) σ) : ∀ (l' : List Kd) (k : Nat) (D : xs_D) (ξ : xs_X) (σ : am_S) (fs : List Nat) (W : List (Int32 × Int32 × Int32)) {x2 x6 : Int32}, k + l'.length = L.length → (∀ q : Nat, l'[q]? = L[k + q]?) → x6 = nI k → XS F D ξ σ → FSt Db ξb D ξ fs W ia r N → x2 = nI fs.length → W ++ nfx V0 l' = nfx V0 L → cr G (m + 2 * (nfx V0 l').length) σ → B_X0_fixedOf_2_57 G (d + 2) (some w0) x2 (some r) (some w) (nI as.length) x6 σ Q
  | [], k, D, ξ, σ, fs, W, x2, x6, hk, hq, hx6, H, hS, hx2, hWf, hcr => by
    subst hx6
    have hkl : k = as.length := by rw [hW.1, ← hk]; rfl
    refine B_X0_fixedOf_2_57_f ⟨fun _ => ?_, fun c => absurd (nI_le (a := as.length) (b := k) (by omega) (by have := hW.1; omega)) c⟩
    have : W = nfx V0 L := by rw [← hWf]; show W = W ++ []; rw [List.append_nil]
    subst this
    exact hQ D ξ σ fs H hS (hcr.le (by omega))
  | kd :: l', k, D, ξ, σ, fs, W, x2, x6, hk, hq, hx6, H, hS, hx2, hWf, hcr => by
    subst hx6
    have hkl : k < as.length := by rw [hW.1, ← hk]; show k < k + (l'.length + 1); omega
    have hLk : L[k]? = some kd := by have := hq 0; rw [Nat.add_zero] at this; exact this.symm
    obtain ⟨a, ha⟩ : ∃ a, as[k]? = some a := ⟨_, List.getElem?_eq_getElem hkl⟩
    have hA' := hA
    obtain ⟨g, g1, g2⟩ := hA
    have hfl : nfx V0 (kd :: l') = nfK V0 kd ++ nfx V0 l' := by unfold nfx; rw [List.flatMap_cons]
    have hlen : fs.length + (kS kd).length ≤ N := by
      rw [hNe, ← hWf, hfl, List.length_append, List.length_append, nfK_len, hS.2.2.2.2.1.1]
      omega
    refine B_X0_fixedOf_2_57_f ⟨fun c => absurd c (nI_ge hkl (by have := hW.1; omega)), fun _ => z_ar H g1 rfl hkl (by have := hW.1; omega) (g2 k a ha) ?_⟩
    refine X_fx74 (m := m) (mf := (nfx V0 l').length) (Wf := W ++ nfK V0 kd) hW hA0 hV0 hl0 hN9 hLk ha (fun D1 ξ1 σ1 fs1 x2' x6' H1 hS1 hx2' hx6' c1 => ?_) (kS kd) 0 D ξ σ fs W (by omega) (fun q => by rw [Nat.zero_add]) rfl H hS hx2 hlen rfl (hcr.le (by rw [hfl, List.length_append, nfK_len]; omega))
    refine X_fx57 hW hA' hA0 hV0 hl0 hL hNe hN9 hQ l' (k + 1) D1 ξ1 σ1 fs1 (W ++ nfK V0 kd) (by rw [← hk]; show k + 1 + l'.length = k + (l'.length + 1); omega) (fun q => ?_) (hx6'.trans (nI_1 k)) H1 hS1 hx2' (by rw [List.append_assoc, ← hfl]; exact hWf) c1
    have := hq (q + 1)
    rw [show k + (q + 1) = k + 1 + q by omega] at this
    exact this
/-- how many statics in all -/
theorem X_fx11 {w w0 : Nat} {as : List Nat} {L : List Kd} {V0 : List (Int32 × Int32 × Int32)} {D : xs_D} {ξ : xs_X} {σ : am_S} (H : XS F D ξ σ) (hW : WX F as L) (hA : kAr F w as) (hL : L.length < 100) {Q : Option Nat → am_S → Prop} (hQ : f_na G σ 11 f_a0r (nI (nfx V0 L).length) (fun n1 σ2 => f_al σ2 (some w) 9 (fun v3 => B_X0_fixedOf_2_57 G (d + 2) (some w0) 0 (some n1) (some w) v3 0 σ2 Q))) : ∀ (l' : List Kd) (k : Nat) (n : Nat) {x2 x5 : Int32}, k + l'.length = L.length → (∀ q : Nat, l'[q]? = L[k + q]?) → x5 = nI k → x2 = nI n → n + (nfx V0 l').length = (nfx V0 L).length → B_X0_fixedOf_2_11 G (d + 2) (some w) (some w0) x2 (some w) (nI as.length) x5 σ Q
  | [], k, n, x2, x5, hk, hq, hx5, hx2, hn => by
    subst hx5; subst hx2
    have hkl : k = as.length := by rw [hW.1, ← hk]; rfl
    have hn' : n = (nfx V0 L).length := by rw [← hn]; rfl
    refine B_X0_fixedOf_2_11_f ⟨fun _ => ?_, fun c => absurd (nI_le (a := as.length) (b := k) (by omega) (by have := hW.1; omega)) c⟩
    rw [hn']
    exact hQ
  | kd :: l', k, n, x2, x5, hk, hq, hx5, hx2, hn => by
    subst hx5; subst hx2
    have hkl : k < as.length := by rw [hW.1, ← hk]; show k < k + (l'.length + 1); omega
    have hLk : L[k]? = some kd := by have := hq 0; rw [Nat.add_zero] at this; exact this.symm
    obtain ⟨a, ha⟩ : ∃ a, as[k]? = some a := ⟨_, List.getElem?_eq_getElem hkl⟩
    have hA' := hA
    obtain ⟨g, g1, g2⟩ := hA
    obtain ⟨f, c3, c4, c5, c6, c7, c8, g3, g4, g5, g6, g7, g8, k1, k2, k3, k4, k5, k6, k7, k8⟩ := hW.2 k kd a hLk ha
    have hfl : nfx V0 (kd :: l') = nfK V0 kd ++ nfx V0 l' := by unfold nfx; rw [List.flatMap_cons]
    refine B_X0_fixedOf_2_11_f ⟨fun c => absurd c (nI_ge hkl (by have := hW.1; omega)), fun _ => z_ar H g1 rfl hkl (by have := hW.1; omega) (g2 k a ha) (z_gr H k1 (by decide) k7.1 (z_al H k7.2 ?_))⟩
    refine X_fx11 H hW hA' hL hQ l' (k + 1) (n + (kS kd).length) (by rw [← hk]; show k + 1 + l'.length = k + (l'.length + 1); omega) (fun q => ?_) (nI_1 k) (nI_add n _) (by rw [hfl, List.length_append, nfK_len] at hn; omega)
    have := hq (q + 1)
    rw [show k + (q + 1) = k + 1 + q by omega] at this
    exact this
end
section
variable {G : am_G} {d m : Nat} {F : am_H} {D : xs_D} {ξ : xs_X} {σ : am_S}
/-- the statics of new kinds -/
theorem X_fixedOf2 (H : XS F D ξ σ) (hT : TD D) {w w0 : Nat} {as fs0 : List Nat} {L : List Kd} {V0 : List (Int32 × Int32 × Int32)} (hW : WX F as L) (hA : kAr F w as) (hL : L.length ≤ 12) (hA0 : fAr F w0 fs0) (hV0 : FXo D ξ fs0 V0) (hl0 : fs0.length < 1000) (hcr : cr G (m + 150) σ) {Q : Option Nat → am_S → Prop} (hQ : ∀ F' D' ξ' σ' fs r, FE F F' → XD D D' → TD D' → XS F' D' ξ' σ' → (∀ q, D.2.2 q → sc ξ ξ' q) → fAr F' r fs → FXo D' ξ' fs (nfx V0 L) → (∀ v, v ∈ fs → ¬ D.2.2 (2000 + v)) → cr G m σ' → Q (some r) σ') : W_X0_fixedOf_2 G (d + 2) (some w) (some w0) σ Q := by
  have hA' := hA
  obtain ⟨g, g1, g2⟩ := hA
  have hS4 : ∀ kd, kd ∈ L → (kS kd).length ≤ 4 := fun kd hkd => by
    obtain ⟨k, hk⟩ := List.getElem?_of_mem hkd
    have hkl := get_lt hk
    obtain ⟨a, ha⟩ : ∃ a, as[k]? = some a := ⟨_, List.getElem?_eq_getElem (by rw [hW.1]; exact hkl)⟩
    obtain ⟨f, c3, c4, c5, c6, c7, c8, g3, g4, g5, g6, g7, g8, k1, k2, k3, k4, k5, k6, k7, k8, k9, k10, k11, k12⟩ := hW.2 k kd a hk ha
    exact k11.2.1
  have hN := nfx_le (V := V0) L hS4
  refine W_X0_fixedOf_2_f (z_al H g1 (X_fx11 (V0 := V0) H hW hA' (by omega) ?_ L 0 0 (by omega) (fun q => by rw [Nat.zero_add]) rfl rfl (by omega)))
  refine x_nar (n := (nfx V0 L).length) (j := 13) (m := m + 2 * 48) H hT rfl (by decide) (hcr.le (by omega)) ⟨by omega, by omega, by omega⟩ fun D1 ξ1 σ1 ia xd td ni ri _ H1 s1 n1 q1 c1 hF1 => z_al H1 g1 ?_
  refine X_fx57 (m := m) (Db := D) (ξb := ξ) hW hA' hA0 hV0 hl0 (by omega) rfl (by omega) (fun D2 ξ2 σ2 fs H2 hS2 c2 => ?_) L 0 D1 ξ1 σ1 [] [] (by omega) (fun q => by rw [Nat.zero_add]) rfl H1 ⟨xd, td, ri, ni, ⟨rfl, fun q v x h => by simp at h⟩, fun v hv => by simp at hv, n1, fun q v h => by simp at h, s1⟩ rfl rfl (c1.le (by omega))
  obtain ⟨a1, a2, a3, a4, a5, a6, a7, a8, a9⟩ := hS2
  obtain ⟨H3, hF3⟩ := H2.frz a3 (fun _ _ => tf_no (by decide))
  have xd3 : XD D (D2.1, D2.2.1, fun j => j ≠ ia ∧ D2.2.2 j) := a1.drop a4
  refine hQ _ (D2.1, D2.2.1, fun j => j ≠ ia ∧ D2.2.2 j) ξ2 σ2 fs _ (fzF_FE hF3) xd3 a2.drop H3 a9 ⟨xQ ξ2 ia, fzF_s.trans ?_, a8⟩ ⟨a5.1, fun q v x h1 h2 => ?_⟩ (fun v hv => (a6 v hv).1) c2
  · unfold xs_E
    rw [if_neg (by decide), if_neg (by decide), if_neg (by decide), if_neg (by decide), a7, a5.1]
  · obtain ⟨b1, b2, b3, b4⟩ := a5.2 q v x h1 h2
    exact ⟨⟨⟨(a6 v (List.mem_of_getElem? h1)).2, b1.1⟩, b1.2⟩, b2, b3, b4⟩
end
