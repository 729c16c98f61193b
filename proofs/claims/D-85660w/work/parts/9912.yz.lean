set_option maxRecDepth 100000
/-! ===== what holds of all texts that are read: names, depths ===== -/
/-- how deep a number's tree is (a minus counts twice) -/
def hm : Term → Nat
  | .old a => hm a + 2
  | .add a b => max (hm a) (hm b) + 1
  | .sub a b => max (hm a) (hm b) + 1
  | .mul a b => max (hm a) (hm b) + 1
  | .div a b => max (hm a) (hm b) + 1
  | .elem a b => max (hm a) (hm b) + 1
  | .rem a b => max (hm a) (hm b) + 1
  | _ => 1
/-- a block's depth: r ifs within each other at most; its numbers are not deep -/
def okB : Term → Nat → Prop
  | .thrown, _ => True
  | .add (.elem (.index _) e) b, r => hm e ≤ 520 ∧ okB b r
  | .add (.length e) b, r => hm e ≤ 520 ∧ okB b r
  | .add (.sum e) b, r => hm e ≤ 520 ∧ okB b r
  | .add .null b, r => okB b r
  | .add (.arg _) b, r => okB b r
  | .add (.mul (.index _) (.index _)) b, r => okB b r
  | .add .result b, r => okB b r
  | .add (.sub e (.sub y z)) b, r => hm e ≤ 520 ∧ 1 ≤ r ∧ okB y (r - 1) ∧ okB z (r - 1) ∧ okB b r
  | _, _ => False
section
variable {T : Nat → Int32}
theorem lx_step (he : ∀ p, 1000 ≤ p → T p = -1) {p : Nat} (h : ¬ lxt T p = 0) (hp : p ≤ 1000) : p < lxe T p ∧ lxe T p ≤ 1000 := ⟨lxe_gt h, lxe_le he hp⟩
/-- what a name's reading gives -/
theorem ps_name_lt (he : ∀ p, 1000 ≤ p → T p = -1) {p p' k : Nat} {N N' : ps_N} (h : ps_name T p N = ps_ok k p' N') (hp : p ≤ 1000) (hN : N.1 ≤ 40) : k < 40 ∧ N'.1 ≤ 40 ∧ p < p' ∧ p' ≤ 1000 := by
  unfold ps_name at h
  by_cases h2 : lxt T p = 2
  · rw [if_pos h2] at h
    have hs := lx_step he (p := p) (by rw [h2]; decide) hp
    revert h
    dsimp only
    generalize ps_fn N (lxn T p) N.1 0 = q
    intro h
    by_cases hq : q < N.1
    · rw [if_pos hq] at h
      obtain ⟨e1, e2, e3⟩ := ps_ok_inj h
      subst e1; subst e2; subst e3
      exact ⟨by omega, hN, hs⟩
    · rw [if_neg hq] at h
      by_cases h40 : N.1 = 40
      · rw [if_pos h40] at h; cases h
      · rw [if_neg h40] at h
        obtain ⟨e1, e2, e3⟩ := ps_ok_inj h
        subst e1; subst e2; subst e3
        exact ⟨by omega, by show N.1 + 1 ≤ 40; omega, hs⟩
  · rw [if_neg h2] at h
    cases h
theorem ps_need_lt (he : ∀ p, 1000 ≤ p → T p = -1) {c : Int32} {p p' : Nat} {u : Unit} {N N' : ps_N} (hc : ¬ 200 + c = 0) (h : ps_need T c p N = ps_ok u p' N') (hp : p ≤ 1000) : N' = N ∧ p < p' ∧ p' ≤ 1000 := by
  unfold ps_need at h
  by_cases h2 : lxt T p = 200 + c
  · rw [if_pos h2] at h
    obtain ⟨e1, e2, e3⟩ := ps_ok_inj h
    subst e2; subst e3
    exact ⟨rfl, lx_step he (by rw [h2]; exact hc) hp⟩
  · rw [if_neg h2] at h
    cases h
/-- a reader of numbers, r to be opened -/
def EPr (T : Nat → Int32) (r : Nat) (sub : Nat → ps_N → ps_R Term) : Prop := ∀ (p : Nat) (N : ps_N) (t : Term) (p' : Nat) (N' : ps_N), sub p N = ps_ok t p' N' → p ≤ 1000 → N.1 ≤ 40 → N'.1 ≤ 40 ∧ p < p' ∧ p' ≤ 1000 ∧ 2 * hm t ≤ (p' - p) + 1 + 3 * r
theorem EP_loop (he : ∀ p, 1000 ≤ p → T p = -1) {r : Nat} {op : Int32 → Option (Term → Term → Term)} {sub : Nat → ps_N → ps_R Term} (hsub : EPr T r sub) (hop : ∀ t z, op t = some z → ¬ t = 0 ∧ ∀ a b, hm (z a b) = max (hm a) (hm b) + 1) : ∀ (g : Nat) (a : Term) (p : Nat) (N : ps_N) (p0 : Nat), p0 < p → p ≤ 1000 → N.1 ≤ 40 → 2 * hm a ≤ (p - p0) + 1 + 3 * r → ∀ (t : Term) (p' : Nat) (N' : ps_N), ps_loop T op sub g a p N = ps_ok t p' N' → N'.1 ≤ 40 ∧ p0 < p' ∧ p' ≤ 1000 ∧ 2 * hm t ≤ (p' - p0) + 1 + 3 * r
  | 0, a, p, N, p0, h1, h2, h3, h4, t, p', N', h => by cases h
  | g + 1, a, p, N, p0, h1, h2, h3, h4, t, p', N', h => by
    unfold ps_loop at h
    cases ho : op (lxt T p) with
    | none =>
      rw [ho] at h
      obtain ⟨e1, e2, e3⟩ := ps_ok_inj h
      subst e1; subst e2; subst e3
      exact ⟨h3, h1, h2, h4⟩
    | some z =>
      rw [ho] at h
      obtain ⟨b, p1, N1, g1, g2⟩ := ps_b_ok h
      obtain ⟨z1, z2⟩ := hop _ _ ho
      have hs := lx_step he z1 h2
      obtain ⟨k1, k2, k3, k4⟩ := hsub _ _ _ _ _ g1 hs.2 h3
      refine EP_loop he hsub hop g (z a b) p1 N1 p0 (by omega) k3 k1 ?_ t p' N' g2
      rw [z2]
      omega
theorem EP_mul (he : ∀ p, 1000 ≤ p → T p = -1) {t : Int32} {z : Term → Term → Term} (h : ps_mul t = some z) : ¬ t = 0 ∧ ∀ a b, hm (z a b) = max (hm a) (hm b) + 1 := by
  unfold ps_mul at h
  by_cases h1 : t = 242
  · rw [if_pos h1] at h
    cases h
    exact ⟨by rw [h1]; decide, fun _ _ => rfl⟩
  · rw [if_neg h1] at h
    by_cases h2 : t = 247
    · rw [if_pos h2] at h
      cases h
      exact ⟨by rw [h2]; decide, fun _ _ => rfl⟩
    · rw [if_neg h2] at h; cases h
theorem EP_add (he : ∀ p, 1000 ≤ p → T p = -1) {t : Int32} {z : Term → Term → Term} (h : ps_add t = some z) : ¬ t = 0 ∧ ∀ a b, hm (z a b) = max (hm a) (hm b) + 1 := by
  unfold ps_add at h
  by_cases h1 : t = 243
  · rw [if_pos h1] at h
    cases h
    exact ⟨by rw [h1]; decide, fun _ _ => rfl⟩
  · rw [if_neg h1] at h
    by_cases h2 : t = 245
    · rw [if_pos h2] at h
      cases h
      exact ⟨by rw [h2]; decide, fun _ _ => rfl⟩
    · rw [if_neg h2] at h; cases h
theorem EP_prod (he : ∀ p, 1000 ≤ p → T p = -1) {r : Nat} {un : Nat → ps_N → ps_R Term} (h : EPr T r un) : EPr T r (ps_prod T un) := fun p N t p' N' h1 hp hN => by
  unfold ps_prod at h1
  obtain ⟨a, p1, N1, g1, g2⟩ := ps_b_ok h1
  obtain ⟨k1, k2, k3, k4⟩ := h _ _ _ _ _ g1 hp hN
  exact EP_loop he h (fun t z hz => EP_mul he hz) 1001 a p1 N1 p k2 k3 k1 k4 t p' N' g2
theorem EP_sum (he : ∀ p, 1000 ≤ p → T p = -1) {r : Nat} {un : Nat → ps_N → ps_R Term} (h : EPr T r un) : EPr T r (ps_sum T un) := fun p N t p' N' h1 hp hN => by
  unfold ps_sum at h1
  obtain ⟨a, p1, N1, g1, g2⟩ := ps_b_ok h1
  obtain ⟨k1, k2, k3, k4⟩ := EP_prod he h _ _ _ _ _ g1 hp hN
  exact EP_loop he (EP_prod he h) (fun t z hz => EP_add he hz) 1001 a p1 N1 p k2 k3 k1 k4 t p' N' g2
theorem EP_exp (he : ∀ p, 1000 ≤ p → T p = -1) {r : Nat} {un : Nat → ps_N → ps_R Term} (h : EPr T r un) : EPr T r (ps_exp T un) := fun p N t p' N' h1 hp hN => by
  unfold ps_exp at h1
  obtain ⟨a, p1, N1, g1, g2⟩ := ps_b_ok h1
  obtain ⟨k1, k2, k3, k4⟩ := EP_sum he h _ _ _ _ _ g1 hp hN
  by_cases h60 : lxt T p1 = 260
  · rw [if_pos h60] at g2
    obtain ⟨b, p2, N2, g3, g4⟩ := ps_b_ok g2
    have hs := lx_step he (p := p1) (by rw [h60]; decide) k3
    obtain ⟨l1, l2, l3, l4⟩ := EP_sum he h _ _ _ _ _ g3 hs.2 k1
    obtain ⟨e1, e2, e3⟩ := ps_ok_inj g4
    subst e1; subst e2; subst e3
    exact ⟨l1, by omega, l3, by show 2 * (max (hm a) (hm b) + 1) ≤ _; omega⟩
  · rw [if_neg h60] at g2
    by_cases h61 : lxt T p1 = 201
    · rw [if_pos h61] at g2
      obtain ⟨b, p2, N2, g3, g4⟩ := ps_b_ok g2
      have hs := lx_step he (p := p1) (by rw [h61]; decide) k3
      obtain ⟨l1, l2, l3, l4⟩ := EP_sum he h _ _ _ _ _ g3 hs.2 k1
      obtain ⟨e1, e2, e3⟩ := ps_ok_inj g4
      subst e1; subst e2; subst e3
      exact ⟨l1, by omega, l3, by show 2 * (max (hm a) (hm b) + 1) ≤ _; omega⟩
    · rw [if_neg h61] at g2
      obtain ⟨e1, e2, e3⟩ := ps_ok_inj g2
      subst e1; subst e2; subst e3
      exact ⟨k1, k2, k3, k4⟩
theorem EP_unit (he : ∀ p, 1000 ≤ p → T p = -1) : ∀ r, EPr T r (ps_unit T r) := fun r => by
  induction r with
  | zero =>
    intro p N t p' N' h hp hN
    unfold ps_unit at h
    by_cases h3 : lxt T p = 3
    · rw [if_pos h3] at h
      obtain ⟨e1, e2, e3⟩ := ps_ok_inj h
      subst e1; subst e2; subst e3
      have hs := lx_step he (p := p) (by rw [h3]; decide) hp
      exact ⟨hN, hs.1, hs.2, by show 2 * 1 ≤ _; omega⟩
    rw [if_neg h3] at h
    by_cases h2 : lxt T p = 2
    · rw [if_pos h2] at h
      obtain ⟨k, p1, N1, g1, g2⟩ := ps_b_ok h
      obtain ⟨a1, a2, a3, a4⟩ := ps_name_lt he g1 hp hN
      obtain ⟨e1, e2, e3⟩ := ps_ok_inj g2
      subst e1; subst e2; subst e3
      exact ⟨a2, a3, a4, by show 2 * 1 ≤ _; omega⟩
    rw [if_neg h2] at h
    by_cases h4 : lxt T p = 114
    · rw [if_pos h4] at h
      obtain ⟨e1, e2, e3⟩ := ps_ok_inj h
      subst e1; subst e2; subst e3
      have hs := lx_step he (p := p) (by rw [h4]; decide) hp
      exact ⟨hN, hs.1, hs.2, by show 2 * 1 ≤ _; omega⟩
    rw [if_neg h4] at h
    by_cases h5 : lxt T p = 115
    · rw [if_pos h5] at h
      obtain ⟨e1, e2, e3⟩ := ps_ok_inj h
      subst e1; subst e2; subst e3
      have hs := lx_step he (p := p) (by rw [h5]; decide) hp
      exact ⟨hN, hs.1, hs.2, by show 2 * 1 ≤ _; omega⟩
    rw [if_neg h5] at h
    by_cases h6 : lxt T p = 245
    · rw [if_pos h6] at h; cases h
    rw [if_neg h6] at h
    by_cases h7 : lxt T p = 240
    · rw [if_pos h7] at h; cases h
    rw [if_neg h7] at h
    cases h
  | succ r ih =>
    intro p N t p' N' h hp hN
    unfold ps_unit at h
    by_cases h3 : lxt T p = 3
    · rw [if_pos h3] at h
      obtain ⟨e1, e2, e3⟩ := ps_ok_inj h
      subst e1; subst e2; subst e3
      have hs := lx_step he (p := p) (by rw [h3]; decide) hp
      exact ⟨hN, hs.1, hs.2, by show 2 * 1 ≤ _; omega⟩
    rw [if_neg h3] at h
    by_cases h2 : lxt T p = 2
    · rw [if_pos h2] at h
      obtain ⟨k, p1, N1, g1, g2⟩ := ps_b_ok h
      obtain ⟨a1, a2, a3, a4⟩ := ps_name_lt he g1 hp hN
      obtain ⟨e1, e2, e3⟩ := ps_ok_inj g2
      subst e1; subst e2; subst e3
      exact ⟨a2, a3, a4, by show 2 * 1 ≤ _; omega⟩
    rw [if_neg h2] at h
    by_cases h4 : lxt T p = 114
    · rw [if_pos h4] at h
      obtain ⟨e1, e2, e3⟩ := ps_ok_inj h
      subst e1; subst e2; subst e3
      have hs := lx_step he (p := p) (by rw [h4]; decide) hp
      exact ⟨hN, hs.1, hs.2, by show 2 * 1 ≤ _; omega⟩
    rw [if_neg h4] at h
    by_cases h5 : lxt T p = 115
    · rw [if_pos h5] at h
      obtain ⟨e1, e2, e3⟩ := ps_ok_inj h
      subst e1; subst e2; subst e3
      have hs := lx_step he (p := p) (by rw [h5]; decide) hp
      exact ⟨hN, hs.1, hs.2, by show 2 * 1 ≤ _; omega⟩
    rw [if_neg h5] at h
    by_cases h6 : lxt T p = 245
    · rw [if_pos h6] at h
      obtain ⟨a, p1, N1, g1, g2⟩ := ps_b_ok h
      have hs := lx_step he (p := p) (by rw [h6]; decide) hp
      obtain ⟨k1, k2, k3, k4⟩ := ih _ _ _ _ _ g1 hs.2 hN
      obtain ⟨e1, e2, e3⟩ := ps_ok_inj g2
      subst e1; subst e2; subst e3
      exact ⟨k1, by omega, k3, by show 2 * (hm a + 2) ≤ _; omega⟩
    rw [if_neg h6] at h
    by_cases h7 : lxt T p = 240
    · rw [if_pos h7] at h
      obtain ⟨a, p1, N1, g1, g2⟩ := ps_b_ok h
      obtain ⟨u, p2, N2, g3, g4⟩ := ps_b_ok g2
      have hs := lx_step he (p := p) (by rw [h7]; decide) hp
      obtain ⟨k1, k2, k3, k4⟩ := EP_exp he ih _ _ _ _ _ g1 hs.2 hN
      obtain ⟨l1, l2, l3⟩ := ps_need_lt he (by decide) g3 k3
      obtain ⟨e1, e2, e3⟩ := ps_ok_inj g4
      subst e1; subst e2; subst e3; subst l1
      exact ⟨k1, by omega, l3, by omega⟩
    rw [if_neg h7] at h
    cases h
/-- an expression is not deep -/
theorem ps_exp_hm (he : ∀ p, 1000 ≤ p → T p = -1) {r p p' : Nat} {t : Term} {N N' : ps_N} (hr : r ≤ 12) (h : ps_exp T (ps_unit T r) p N = ps_ok t p' N') (hp : p ≤ 1000) (hN : N.1 ≤ 40) : hm t ≤ 520 ∧ N'.1 ≤ 40 ∧ p < p' ∧ p' ≤ 1000 := by
  obtain ⟨h1, h2, h3, h4⟩ := EP_exp he (EP_unit he r) _ _ _ _ _ h hp hN
  exact ⟨by omega, h1, h2, h3⟩
end
