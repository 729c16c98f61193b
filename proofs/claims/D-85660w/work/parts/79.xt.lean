set_option maxRecDepth 100000
/-! ===== X: expressions as trees of frozen objects; chains while they are made ===== -/
/-- a chain object: others o, signs s, the first fi, so many k -/
def isCn (F : am_H) (r : Nat) (P : (Nat → Option Nat) → (Nat → Int32) → Nat → Nat → Prop) : Prop := ∃ f fi oa sa k l o s, F r = some (.inr (16, f)) ∧ f 1 = va_rf (some fi) ∧ f 2 = va_rf (some oa) ∧ f 3 = va_rf (some sa) ∧ f 4 = .int (nI k) ∧ F oa = some (.inl (6, l, .inr (.inr (.inr (.inr o))))) ∧ F sa = some (.inl (2, l, .inl s)) ∧ k ≤ l ∧ l < 65536 ∧ P o s fi k
/-- one more link -/
def isLi (sg : Int32) (P : Nat → Prop) (R : (Nat → Option Nat) → (Nat → Int32) → Nat → Nat → Prop) (o : Nat → Option Nat) (s : Nat → Int32) (fi k : Nat) : Prop := ∃ j w, k = j + 1 ∧ s j = sg ∧ o j = some w ∧ P w ∧ R o s fi j
/-- the tree is the object fi; or (b) the first k links of a chain -/
def xT (F : am_H) : Term → Bool → (Nat → Option Nat) → (Nat → Int32) → Nat → Nat → Prop
  | .int v, b, _, _, fi, k => (b = true → k = 0) ∧ ∃ f, F fi = some (.inr (12, f)) ∧ f 1 = .int v
  | .index m, b, _, _, fi, k => (b = true → k = 0) ∧ ∃ f, F fi = some (.inr (13, f)) ∧ f 1 = .int (nI m) ∧ m < 40
  | .null, b, _, _, fi, k => (b = true → k = 0) ∧ ∃ f, F fi = some (.inr (14, f)) ∧ f 1 = .int 0
  | .result, b, _, _, fi, k => (b = true → k = 0) ∧ ∃ f, F fi = some (.inr (14, f)) ∧ f 1 = .int 1
  | .old a, b, _, _, fi, k => (b = true → k = 0) ∧ ∃ f w, F fi = some (.inr (15, f)) ∧ f 1 = va_rf (some w) ∧ xT F a false (fun _ => none) (fun _ => 0) w 0
  | .add a c, b, o, s, fi, k => (b = true ∧ isLi 43 (fun w => xT F c false (fun _ => none) (fun _ => 0) w 0) (xT F a true) o s fi k) ∨ ((b = true → k = 0) ∧ isCn F fi (isLi 43 (fun w => xT F c false (fun _ => none) (fun _ => 0) w 0) (xT F a true)))
  | .sub a c, b, o, s, fi, k => (b = true ∧ isLi 45 (fun w => xT F c false (fun _ => none) (fun _ => 0) w 0) (xT F a true) o s fi k) ∨ ((b = true → k = 0) ∧ isCn F fi (isLi 45 (fun w => xT F c false (fun _ => none) (fun _ => 0) w 0) (xT F a true)))
  | .mul a c, b, o, s, fi, k => (b = true ∧ isLi 42 (fun w => xT F c false (fun _ => none) (fun _ => 0) w 0) (xT F a true) o s fi k) ∨ ((b = true → k = 0) ∧ isCn F fi (isLi 42 (fun w => xT F c false (fun _ => none) (fun _ => 0) w 0) (xT F a true)))
  | .div a c, b, o, s, fi, k => (b = true ∧ isLi 47 (fun w => xT F c false (fun _ => none) (fun _ => 0) w 0) (xT F a true) o s fi k) ∨ ((b = true → k = 0) ∧ isCn F fi (isLi 47 (fun w => xT F c false (fun _ => none) (fun _ => 0) w 0) (xT F a true)))
  | .elem a c, b, o, s, fi, k => (b = true ∧ isLi 60 (fun w => xT F c false (fun _ => none) (fun _ => 0) w 0) (xT F a true) o s fi k) ∨ ((b = true → k = 0) ∧ isCn F fi (isLi 60 (fun w => xT F c false (fun _ => none) (fun _ => 0) w 0) (xT F a true)))
  | .rem a c, b, o, s, fi, k => (b = true ∧ isLi 61 (fun w => xT F c false (fun _ => none) (fun _ => 0) w 0) (xT F a true) o s fi k) ∨ ((b = true → k = 0) ∧ isCn F fi (isLi 61 (fun w => xT F c false (fun _ => none) (fun _ => 0) w 0) (xT F a true)))
  | _, _, _, _, _, _ => False
abbrev xE (F : am_H) (t : Term) (r : Nat) : Prop := xT F t false (fun _ => none) (fun _ => 0) r 0
theorem isCn.mono {F F1 : am_H} (hF : FE F F1) {r : Nat} {P P1 : (Nat → Option Nat) → (Nat → Int32) → Nat → Nat → Prop} (hP : ∀ o s fi k, P o s fi k → P1 o s fi k) (h : isCn F r P) : isCn F1 r P1 := by
  obtain ⟨f, fi, oa, sa, k, l, o, s, h1, h2, h3, h4, h5, h6, h7, h8, h9, h10⟩ := h
  exact ⟨f, fi, oa, sa, k, l, o, s, hF _ _ h1, h2, h3, h4, h5, hF _ _ h6, hF _ _ h7, h8, h9, hP _ _ _ _ h10⟩
theorem isLi.mono {sg : Int32} {P P1 : Nat → Prop} {R R1 : (Nat → Option Nat) → (Nat → Int32) → Nat → Nat → Prop} (hP : ∀ w, P w → P1 w) (hR : ∀ o s fi k, R o s fi k → R1 o s fi k) {o : Nat → Option Nat} {s : Nat → Int32} {fi k : Nat} (h : isLi sg P R o s fi k) : isLi sg P1 R1 o s fi k := by
  obtain ⟨j, w, h1, h2, h3, h4, h5⟩ := h
  exact ⟨j, w, h1, h2, h3, hP w h4, hR _ _ _ _ h5⟩
theorem xT.mono {F F1 : am_H} (hF : FE F F1) : ∀ (t : Term) (b : Bool) (o : Nat → Option Nat) (s : Nat → Int32) (fi k : Nat), xT F t b o s fi k → xT F1 t b o s fi k := by
  intro t
  induction t with
  | int v | index m | null | result =>
    intro b o s fi k h
    unfold xT at h ⊢
    obtain ⟨h0, f, h1, h2⟩ := h
    exact ⟨h0, f, hF _ _ h1, h2⟩
  | old a ih =>
    intro b o s fi k h
    unfold xT at h ⊢
    obtain ⟨h0, f, w, h1, h2, h3⟩ := h
    exact ⟨h0, f, w, hF _ _ h1, h2, ih _ _ _ _ _ h3⟩
  | add a c iha ihc | sub a c iha ihc | mul a c iha ihc | div a c iha ihc | elem a c iha ihc | rem a c iha ihc =>
    intro b o s fi k h
    unfold xT at h ⊢
    refine h.imp (fun h => ⟨h.1, h.2.mono (fun w => ihc _ _ _ _ _) (iha true)⟩) fun h => ⟨h.1, h.2.mono hF fun o s fi k hl => hl.mono (fun w => ihc _ _ _ _ _) (iha true)⟩
  | _ => intro b o s fi k h; exact h.elim
theorem isLi.ext {sg : Int32} {P : Nat → Prop} {R : (Nat → Option Nat) → (Nat → Int32) → Nat → Nat → Prop} {o o1 : Nat → Option Nat} {s s1 : Nat → Int32} {fi k : Nat} (hk : ∀ j, j < k → o1 j = o j ∧ s1 j = s j) (hR : ∀ j, j < k → R o s fi j → R o1 s1 fi j) (h : isLi sg P R o s fi k) : isLi sg P R o1 s1 fi k := by
  obtain ⟨j, w, h1, h2, h3, h4, h5⟩ := h
  have hj := hk j (by omega)
  exact ⟨j, w, h1, hj.2.trans h2, hj.1.trans h3, h4, hR j (by omega) h5⟩
theorem xT.ext {F : am_H} : ∀ (t : Term) {o o1 : Nat → Option Nat} {s s1 : Nat → Int32} {fi k : Nat}, (∀ j, j < k → o1 j = o j ∧ s1 j = s j) → xT F t true o s fi k → xT F t true o1 s1 fi k := by
  intro t
  induction t with
  | int v | index m | null | result | old a ih => intro o o1 s s1 fi k hk h; exact h
  | add a c iha ihc | sub a c iha ihc | mul a c iha ihc | div a c iha ihc | elem a c iha ihc | rem a c iha ihc =>
    intro o o1 s s1 fi k hk h
    unfold xT at h ⊢
    exact h.imp (fun h => ⟨h.1, h.2.ext hk fun j hj hR => iha (fun q hq => hk q (by omega)) hR⟩) fun h => h
  | _ => intro o o1 s s1 fi k hk h; exact h.elim
/-- an object begins a chain -/
theorem xT.start {F : am_H} {o : Nat → Option Nat} {s : Nat → Int32} : ∀ (t : Term) {fi : Nat}, xE F t fi → xT F t true o s fi 0 := by
  intro t
  cases t with
  | int v | index m | null | result | old a => intro fi h; exact ⟨fun _ => rfl, h.2⟩
  | add a c | sub a c | mul a c | div a c | elem a c | rem a c =>
    intro fi h
    rcases h with ⟨h, -⟩ | ⟨-, h⟩
    · exact absurd h (by decide)
    · exact Or.inr ⟨fun _ => rfl, h⟩
  | _ => intro fi h; exact h.elim
/-- a chain object is its links -/
theorem xT.close {F : am_H} {r fi oa sa k l : Nat} {f : Nat → Value} {o : Nat → Option Nat} {s : Nat → Int32} (h1 : F r = some (.inr (16, f))) (h2 : f 1 = va_rf (some fi)) (h3 : f 2 = va_rf (some oa)) (h4 : f 3 = va_rf (some sa)) (h5 : f 4 = .int (nI k)) (h6 : F oa = some (.inl (6, l, .inr (.inr (.inr (.inr o)))))) (h7 : F sa = some (.inl (2, l, .inl s))) (h8 : k ≤ l) (h9 : l < 65536) (hk : 1 ≤ k) : ∀ (t : Term), xT F t true o s fi k → xE F t r := by
  intro t
  cases t with
  | int v | index m | null | result | old a => intro h; have := h.1 rfl; omega
  | add a c | sub a c | mul a c | div a c | elem a c | rem a c =>
    intro h
    rcases h with ⟨-, h⟩ | ⟨h, -⟩
    · exact Or.inr ⟨fun h => absurd h (by decide), f, fi, oa, sa, k, l, o, s, h1, h2, h3, h4, h5, h6, h7, h8, h9, h⟩
    · have := h rfl
      omega
  | _ => intro h; exact h.elim
theorem xE.cls {F : am_H} : ∀ (t : Term) {r : Nat}, xE F t r → ∃ c f, F r = some (.inr (c, f)) ∧ c ∈ [12, 13, 14, 15, 16] := by
  intro t
  cases t with
  | int v => intro r h; obtain ⟨-, f, h1, -⟩ := h; exact ⟨12, f, h1, by decide⟩
  | index m => intro r h; obtain ⟨-, f, h1, -⟩ := h; exact ⟨13, f, h1, by decide⟩
  | null | result => intro r h; obtain ⟨-, f, h1, -⟩ := h; exact ⟨14, f, h1, by decide⟩
  | old a => intro r h; obtain ⟨-, f, w, h1, -⟩ := h; exact ⟨15, f, h1, by decide⟩
  | add a c | sub a c | mul a c | div a c | elem a c | rem a c =>
    intro r h
    rcases h with ⟨h, -⟩ | ⟨-, f, fi, oa, sa, k, l, o, s, h1, -⟩
    · exact absurd h (by decide)
    · exact ⟨16, f, h1, by decide⟩
  | _ => intro r h; exact h.elim
/-! chains while they are made -/
def xs_wQ (ξ : xs_X) (j : Nat) (f : Nat → Option Nat) : xs_X := (ξ.1, ξ.2.1, ξ.2.2.1, xs_r ξ.2.2.2.1 j f, ξ.2.2.2.2)
theorem wQ_sc {ξ : xs_X} {i j : Nat} {f : Nat → Option Nat} (h : i ≠ j) : sc ξ (xs_wQ ξ j f) i := ⟨rfl, rfl, rfl, by show xs_r ξ.2.2.2.1 j f i = _; unfold xs_r; rw [if_neg h], rfl⟩
theorem wQ_s {ξ : xs_X} {j : Nat} {f : Nat → Option Nat} : xQ (xs_wQ ξ j f) j = f := by show xs_r ξ.2.2.2.1 j f j = f; unfold xs_r; rw [if_pos rfl]
/-- a chain (role i, at r), its others (jo, oa) and signs (js, sa): k links, room for l -/
def CN (D : xs_D) (ξ : xs_X) (i jo js r oa sa fi k l : Nat) : Prop := rl D i r 16 ∧ rl D jo oa 106 ∧ rl D js sa 102 ∧ i ≠ jo ∧ i ≠ js ∧ jo ≠ js ∧ xR ξ i 1 = some fi ∧ xR ξ i 2 = some oa ∧ xR ξ i 3 = some sa ∧ xI ξ i 4 = nI k ∧ xN ξ jo = l ∧ xN ξ js = l ∧ k ≤ l ∧ 2 ≤ l ∧ l ≤ 2 * k + 2 ∧ ∃ h, xR ξ i 5 = some h ∧ rl D 0 h 0
theorem CN.up {D D1 : xs_D} {ξ ξ1 : xs_X} {i jo js r oa sa fi k l : Nat} (h : CN D ξ i jo js r oa sa fi k l) (hD : XD D D1) (h1 : sc ξ ξ1 i) (h2 : sc ξ ξ1 jo) (h3 : sc ξ ξ1 js) : CN D1 ξ1 i jo js r oa sa fi k l := by
  obtain ⟨a1, a2, a3, a4, a5, a6, a7, a8, a9, a10, a11, a12, a13, a14, a15, hv, hv1, hv2⟩ := h
  exact ⟨hD _ _ _ a1, hD _ _ _ a2, hD _ _ _ a3, a4, a5, a6, by rw [h1.2.1]; exact a7, by rw [h1.2.1]; exact a8, by rw [h1.2.1]; exact a9, by rw [h1.1]; exact a10, h2.2.2.2.2.trans a11, h3.2.2.2.2.trans a12, a13, a14, a15, hv, by rw [h1.2.1]; exact hv1, hD _ _ _ hv2⟩
section
variable {G : am_G} {d m : Nat} {F : am_H} {D : xs_D} {ξ : xs_X} {σ : am_S}
theorem x_cpr (H : XS F D ξ σ) {i j a b τ n0 n1 s p q : Nat} {cs : List Nat} {x y z : Int32} {K : am_S → Prop} (hi : rl D i a (100 + τ)) (hj : rl D j b (100 + τ)) (hτ : 5 ≤ τ) (hn0 : xN ξ i = n0) (hn1 : xN ξ j = n1) (hx : x = nI s) (hy : y = nI p) (hz : z = nI q) (h0 : s + q ≤ n0) (h1 : p + q ≤ n1) (hb : n0 < 2 ^ 31 ∧ n1 < 2 ^ 31) (hf : ∀ k, k < q → ∀ w, xQ ξ i (s + k) = some w → f_k σ (some w) cs True) (h : ∀ σ', XS F D (xs_wQ ξ j (va_cpy (xQ ξ i) (xQ ξ j) s p q)) σ' → σ'.2 = σ.2 → K σ') : f_cpr σ (some a) x (some b) y z τ cs K := by
  subst hx; subst hy; subst hz
  have e0 := H.arq hi.1 hi.2.2 hτ
  have e1 := H.arq hj.1 hj.2.2 hτ
  rw [hi.2.1] at e0
  rw [hj.2.1] at e1
  unfold f_cpr f_a
  dsimp only
  rw [e0]
  dsimp only
  refine ⟨rfl, ?_⟩
  rw [e1]
  dsimp only
  refine ⟨rfl, nI_pos (by omega), nI_pos (by omega), nI_pos (by omega), ?_, ?_, ?_, ?_⟩
  · rw [nI_clamp (by omega), nI_clamp (by omega), hn0]; exact h0
  · rw [nI_clamp (by omega), nI_clamp (by omega), hn1]; exact h1
  · rw [nI_clamp (by omega), nI_clamp (by omega)]
    exact hf
  · rw [nI_clamp (by omega), nI_clamp (by omega), nI_clamp (by omega)]
    refine h _ ?_ rfl
    have := H.set (i := j) (e := .inl (τ, xN ξ j, .inr (.inr (.inr (.inr (va_cpy (xQ ξ i) (xQ ξ j) s p q)))))) (ξ' := xs_wQ ξ j (va_cpy (xQ ξ i) (xQ ξ j) s p q)) hj.1 (by
      rw [hj.2.2]
      unfold xs_E
      rw [if_neg (by omega), if_neg (by omega), if_neg (by omega), if_neg (by omega), Nat.add_sub_cancel_left, wQ_s]
      rfl) fun k hk => (wQ_sc hk).E
    rw [hj.2.1] at this
    exact this
/-- a new chain -/
theorem X_chainNew (H : XS F D ξ σ) (hT : TD D) {fi a1 : Nat} {v7 : Option Nat} (hr1 : rl D 1 a1 4) (h7 : xR ξ 1 7 = v7) (hv7 : ∃ h, v7 = some h ∧ rl D 0 h 0) (hcr : cr G (m + 4) σ) {K : Nat → am_S → Prop} (h : ∀ D1 ξ1 σ1 i jo js r oa sa, XD D D1 → TD D1 → ¬ D.2.2 i → ¬ D.2.2 jo → ¬ D.2.2 js → CN D1 ξ1 i jo js r oa sa fi 0 2 → XS F D1 ξ1 σ1 → (∀ q, D.2.2 q → sc ξ ξ1 q) → cr G m σ1 → K r σ1) : f_new G σ 16 6 tyX18 (fun n1 σ2 => f_gr σ2 (some a1) [4] 7 (fun v3 => W_X18_init G (d + 2) n1 v3 (some fi) σ2 (fun σ5 => K n1 σ5))) := by
  refine x_new (c := 16) (j := 2) (m := m + 2) H hT ok_16 (by decide) (hcr.le (by omega)) ⟨by omega, by omega⟩ rfl fun D1 ξ1 σ1 i xd1 td1 ni r1 _ H1 sc1 i1 rr1 cr1 hF1 => x_gr H1 (xd1 _ _ _ hr1) (by decide) ((congrFun (sc1 1 hr1.1).2.1 7).trans h7) ?_
  refine W_X18_init_f (x_pr H1 r1 (by decide) fun σ2 H2 e2 => W_X13_init_f (x_pr H2 r1 (by decide) fun σ3 H3 e3 => ?_))
  have s3 : ∀ q, q ≠ i → sc ξ1 (xs_sR (xs_sR ξ1 i 5 v7) i 0 v7) q := fun q hq => (sR_sc hq).trans (sR_sc hq)
  refine x_nar (n := 2) (j := 1) (m := m + 1) H3 td1 rfl (by decide) (((cr1.eq e2).eq e3).le (by omega)) ⟨by omega, by omega, by omega⟩ fun D4 ξ4 σ4 jo xd4 td4 njo r4 _ H4 sc4 n4 q4 cr4 hF4 => ?_
  refine x_pr H4 (xd4 _ _ _ r1) (by decide) fun σ5 H5 e5 => ?_
  have hio : i ≠ jo := fun e => njo (e ▸ r1.1)
  refine x_nai (n := 2) (j := 1) (m := m) H5 td4 rfl (by decide) ((cr4.eq e5).le (by omega)) ⟨by omega, by omega, by omega⟩ fun D6 ξ6 σ6 js xd6 td6 njs r6 _ H6 sc6 n6 a6 cr6 hF6 => ?_
  have his : i ≠ js := fun e => njs (e ▸ (xd4 _ _ _ r1).1)
  have hos : jo ≠ js := fun e => njs (e ▸ r4.1)
  have ri6 := xd6 _ _ _ (xd4 _ _ _ r1)
  refine x_pr H6 ri6 (by decide) fun σ7 H7 e7 => x_pr H7 ri6 (by decide) fun σ8 H8 e8 => ?_
  have s8 : ∀ q, q ≠ i → sc ξ6 (xs_sR (xs_sR ξ6 i 3 (some σ5.2.1)) i 1 (some fi)) q := fun q hq => (sR_sc hq).trans (sR_sc hq)
  have s5 : ∀ q, q ≠ i → sc ξ4 (xs_sR ξ4 i 2 (some σ3.2.1)) q := fun q hq => sR_sc hq
  have c6i := sc6 i (xd4 _ _ _ r1).1
  have c4i := sc4 i r1.1
  refine h D6 _ σ8 i jo js σ.2.1 σ3.2.1 σ5.2.1 ((xd1.trans xd4).trans xd6) td6 ni (fun hq => njo (xd1.has hq)) (fun hq => njs (xd4.has (xd1.has hq))) ⟨ri6, xd6 _ _ _ r4, r6, hio, his, hos, sR_s, ?_, ?_, ?_, ?_, ?_, by omega, by omega, by omega, ?_⟩ H8 (fun q hq => ?_) ((cr6.eq e7).eq e8)
  · rw [sR_o (by decide), sR_o (by decide), c6i.2.1, sR_s]
  · rw [sR_o (by decide), sR_s]
  · show xI ξ6 i 4 = nI 0
    rw [c6i.1]
    show xI ξ4 i 4 = nI 0
    rw [c4i.1]
    show xI ξ1 i 4 = nI 0
    rw [i1]
    rfl
  · rw [(s8 jo (Ne.symm hio)).2.2.2.2, (sc6 jo r4.1).2.2.2.2, (s5 jo (Ne.symm hio)).2.2.2.2]
    exact n4
  · rw [(s8 js (Ne.symm his)).2.2.2.2]
    exact n6
  · obtain ⟨hv, hv1, hv2⟩ := hv7
    refine ⟨hv, ?_, xd6 _ _ _ (xd4 _ _ _ (xd1 _ _ _ hv2))⟩
    rw [sR_o (by decide), sR_o (by decide), c6i.2.1, sR_o (by decide), c4i.2.1, sR_o (by decide), sR_s]
    exact hv1
  · have hqi : q ≠ i := fun e => ni (e ▸ hq)
    have hq1 := xd1.has hq
    exact ((((sc1 q hq).trans (s3 q hqi)).trans (sc4 q hq1)).trans (s5 q hqi)).trans ((sc6 q (xd4.has hq1)).trans (s8 q hqi))
theorem sg_nar : ∀ c, c < 128 → f_nar 2 (nI c) = nI c := by decide +kernel
theorem sg_fits : ∀ c, c < 128 → fits .char (.int (nI c)) = true := by decide +kernel
/-- what is asked of a link's coming -/
theorem X_chainAdd58 (H : XS F D ξ σ) {i jo js r oa sa fi k l w : Nat} {t' : Term} (hc : CN D ξ i jo js r oa sa fi k l) (hk : k < l) (hl : l < 65536) (hw : xE F t' w) {sg : Nat} (hsg : sg < 128) {y : Int32} (hy : y = nI sg) {Q : am_S → Prop} (h : ∀ ξ' σ', XS F D ξ' σ' → σ'.2 = σ.2 → CN D ξ' i jo js r oa sa fi (k + 1) l → (∀ q, q ≠ i → q ≠ jo → q ≠ js → sc ξ ξ' q) → (∀ q, q < k → xQ ξ' jo q = xQ ξ jo q ∧ xA ξ' js q = xA ξ js q) → xQ ξ' jo k = some w → xA ξ' js k = nI sg → Q σ') : B_X18_add_58 G (d + 1) r y (some w) σ Q := by
  obtain ⟨a1, a2, a3, a4, a5, a6, a7, a8, a9, a10, a11, a12, a13, a14, a15, a16⟩ := hc
  subst hy
  refine B_X18_add_58_f (x_gr H a1 (by decide) a8 (x_gi H a1 (by decide) a10 (x_sr H a2 (by decide) a11 rfl hk (by omega) (fun b hb => ?_) fun σ3 H3 e3 => ?_)))
  · cases hb
    obtain ⟨c, f, g1, g2⟩ := hw.cls
    exact z_k H g1 g2 trivial
  · have s3 : ∀ q, q ≠ jo → sc ξ (xs_sQ ξ jo k (some w)) q := fun q hq => sQ_sc hq
    refine x_gr H3 a1 (by decide) a9 (x_gi H3 a1 (by decide) a10 (x_si H3 a3 (by decide) a12 rfl hk (by omega) fun σ6 H6 e6 => ?_))
    rw [sg_nar sg hsg] at H6
    refine x_gi H6 a1 (by decide) a10 (x_p H6 a1 (by decide) fun σ8 H8 e8 => ?_)
    refine h _ σ8 H8 ((e8.trans e6).trans e3) ⟨a1, a2, a3, a4, a5, a6, a7, a8, a9, sI_s.trans (nI_1 k), a11, a12, by omega, a14, by omega, a16⟩ (fun q h1 h2 h3 => ((sQ_sc h2).trans (sA_sc h3)).trans (sI_sc h1)) (fun q hq => ⟨sQ_o (by omega), sA_o (by omega)⟩) sQ_s sA_s
/-- a link comes -/
theorem X_chainAdd (H : XS F D ξ σ) (hT : TD D) {i jo js r oa sa fi k l w : Nat} {t' : Term} (hc : CN D ξ i jo js r oa sa fi k l) (hk9 : k < 2000) (ho : ∀ q, q < k → ∀ b, xQ ξ jo q = some b → ∃ t, xE F t b) (hs : ∀ q, q < k → ∃ c, c < 128 ∧ xA ξ js q = nI c) (hw : xE F t' w) {sg : Nat} (hsg : sg < 128) {y : Int32} (hy : y = nI sg) (hcr : cr G (m + (k + 4)) σ) {Q : am_S → Prop} (h : ∀ D' ξ' σ' jo' js' oa' sa' l', XD D D' → TD D' → (jo' = jo ∨ ¬ D.2.2 jo') → (js' = js ∨ ¬ D.2.2 js') → XS F D' ξ' σ' → cr G m σ' → CN D' ξ' i jo' js' r oa' sa' fi (k + 1) l' → (∀ q, D.2.2 q → q ≠ i → q ≠ jo → q ≠ js → sc ξ ξ' q) → (∀ q, q < k → xQ ξ' jo' q = xQ ξ jo q ∧ xA ξ' js' q = xA ξ js q) → xQ ξ' jo' k = some w → xA ξ' js' k = nI sg → Q σ') : W_X18_add G (d + 2) r y (some w) σ Q := by
  have hc' := hc
  obtain ⟨a1, a2, a3, a4, a5, a6, a7, a8, a9, a10, a11, a12, a13, a14, a15, a16⟩ := hc'
  refine W_X18_add_f (x_gi H a1 (by decide) a10 (x_gr H a1 (by decide) a9 (x_al H a3 a12 ⟨fun n => ?_, fun e => ?_⟩)))
  · have hkl : k < l := Nat.lt_of_le_of_ne a13 fun e => n (by rw [e])
    exact X_chainAdd58 H hc hkl (by omega) hw hsg hy fun ξ' σ' H' e' c' s' q' w' g' => h D ξ' σ' jo js oa sa l XD.refl hT (Or.inl rfl) (Or.inl rfl) H' ((hcr.eq e').le (by omega)) c' (fun q _ h1 h2 h3 => s' q h1 h2 h3) q' w' g'
  · have hkl : k = l := (nI_eq (by omega) (by omega)).mp e
    have e2 : 2 * nI k = nI (2 * k) := pk_mul 2 k
    refine x_gi H a1 (by decide) a10 ?_
    rw [e2]
    refine x_nar (n := 2 * k) (j := (k + 1) / 2) (m := m + 2 + (k + 1) / 2) H hT rfl (by decide) (hcr.le (by omega)) ⟨by omega, by omega, by omega⟩ fun D1 ξ1 σ1 jo' xd1 td1 njo r1 _ H1 sc1 n1 q1 cr1 hF1 => ?_
    have c1 := hc.up xd1 (sc1 i a1.1) (sc1 jo a2.1) (sc1 js a3.1)
    obtain ⟨b1, b2, b3, b4, b5, b6, b7, b8, b9, b10, b11, b12, b13, b14, b15, b16⟩ := c1
    have hij' : i ≠ jo' := fun e => njo (e ▸ a1.1)
    have hjj' : jo ≠ jo' := fun e => njo (e ▸ a2.1)
    have hsj' : js ≠ jo' := fun e => njo (e ▸ a3.1)
    refine x_gr H1 b1 (by decide) b8 (x_gi H1 b1 (by decide) b10 (x_cpr (s := 0) (p := 0) (q := k) H1 b2 r1 (by decide) b11 n1 rfl rfl rfl (by omega) (by omega) ⟨by omega, by omega⟩ (fun q hq b hb => ?_) fun σ2 H2 e2' => ?_))
    · rw [(sc1 jo a2.1).2.2.2.1, Nat.zero_add] at hb
      obtain ⟨t, ht⟩ := ho q hq b hb
      obtain ⟨c, f, g1, g2⟩ := ht.cls
      exact z_k H1 g1 g2 trivial
    have s2 : ∀ q, q ≠ jo' → sc ξ1 (xs_wQ ξ1 jo' (va_cpy (xQ ξ1 jo) (xQ ξ1 jo') 0 0 k)) q := fun q hq => wQ_sc hq
    refine x_pr H2 b1 (by decide) fun σ3 H3 e3 => ?_
    have s3 : ∀ q, q ≠ i → q ≠ jo' → sc ξ1 (xs_sR (xs_wQ ξ1 jo' (va_cpy (xQ ξ1 jo) (xQ ξ1 jo') 0 0 k)) i 2 (some σ.2.1)) q := fun q h1 h2 => (wQ_sc h2).trans (sR_sc h1)
    have r3 : xR (xs_sR (xs_wQ ξ1 jo' (va_cpy (xQ ξ1 jo) (xQ ξ1 jo') 0 0 k)) i 2 (some σ.2.1)) i 3 = some sa := (sR_o (by decide)).trans b9
    refine x_gr H3 b1 (by decide) r3 (x_gi H3 b1 (by decide) b10 ?_)
    rw [e2]
    have n3 : xN (xs_sR (xs_wQ ξ1 jo' (va_cpy (xQ ξ1 jo) (xQ ξ1 jo') 0 0 k)) i 2 (some σ.2.1)) js = l := b12
    refine W_J8_copyOf_5_f (x_al H3 b3 n3 ⟨fun _ => ?_, fun e => ?_⟩)
    · refine x_nai (n := 2 * k) (j := (k + 1) / 2) (m := m) H3 td1 rfl (by decide) (((cr1.eq e2').eq e3).le (by omega)) ⟨by omega, by omega, by omega⟩ fun D4 ξ4 σ4 js' xd4 td4 njs r4 _ H4 sc4 n4 a4' cr4 hF4 => ?_
      have his' : i ≠ js' := fun e => njs (e ▸ b1.1)
      have hjs' : jo ≠ js' := fun e => njs (e ▸ b2.1)
      have hss' : js ≠ js' := fun e => njs (e ▸ b3.1)
      have hos' : jo' ≠ js' := fun e => njs (e ▸ r1.1)
      have n3s : xN ξ4 js = l := (sc4 js b3.1).2.2.2.2.trans n3
      have as : ∀ q, xA ξ4 js q = xA ξ js q := fun q => by rw [(sc4 js b3.1).2.2.1, (s3 js (Ne.symm b5) hsj').2.2.1, (sc1 js a3.1).2.2.1]
      refine x_al H4 (xd4 _ _ _ b3) n3s (W_J7_min_f ⟨fun c => ?_, fun _ => ?_⟩)
      · have := (nI_ltI (show 2 * k < 2 ^ 31 by omega) (show l < 2 ^ 31 by omega)).mp c
        omega
      refine x_cpi (s := 0) (p := 0) (q := l) H4 (xd4 _ _ _ b3) r4 (by decide) n3s n4 rfl rfl rfl (by omega) (by omega) ⟨by omega, by omega⟩ (fun q hq => ?_) fun σ5 H5 e5 => ?_
      · rw [Nat.zero_add, as]
        obtain ⟨c, c1, c2⟩ := hs q (by omega)
        rw [c2]
        exact sg_fits c c1
      refine x_pr H5 (xd4 _ _ _ b1) (by decide) fun σ6 H6 e6 => ?_
      have s6 : ∀ q, q ≠ i → q ≠ js' → sc ξ4 (xs_sR (xs_wA ξ4 js' (va_cpy (xA ξ4 js) (xA ξ4 js') 0 0 l)) i 3 (some σ3.2.1)) q := fun q h1 h2 => (wA_sc h2).trans (sR_sc h1)
      have c4i := sc4 i b1.1
      have c4o := sc4 jo' r1.1
      have hCN : CN D4 (xs_sR (xs_wA ξ4 js' (va_cpy (xA ξ4 js) (xA ξ4 js') 0 0 l)) i 3 (some σ3.2.1)) i jo' js' r σ.2.1 σ3.2.1 fi k (2 * k) := by
        refine ⟨xd4 _ _ _ b1, xd4 _ _ _ r1, r4, hij', his', hos', ?_, ?_, sR_s, ?_, ?_, ?_, by omega, by omega, by omega, ?_⟩
        · rw [sR_o (by decide)]
          show xR ξ4 i 1 = some fi
          rw [c4i.2.1, sR_o (by decide)]
          exact b7
        · rw [sR_o (by decide)]
          show xR ξ4 i 2 = some σ.2.1
          rw [c4i.2.1, sR_s]
        · show xI ξ4 i 4 = nI k
          rw [c4i.1]
          exact b10
        · rw [(s6 jo' (Ne.symm hij') hos').2.2.2.2, c4o.2.2.2.2]
          show xN ξ1 jo' = 2 * k
          exact n1
        · show xN ξ4 js' = 2 * k
          exact n4
        · obtain ⟨hv, hv1, hv2⟩ := b16
          refine ⟨hv, ?_, xd4 _ _ _ hv2⟩
          rw [sR_o (by decide)]
          show xR ξ4 i 5 = some hv
          rw [c4i.2.1, sR_o (by decide)]
          exact hv1
      have hq4 : ∀ q, q < k → xQ (xs_sR (xs_wA ξ4 js' (va_cpy (xA ξ4 js) (xA ξ4 js') 0 0 l)) i 3 (some σ3.2.1)) jo' q = xQ ξ jo q := fun q hq => by
        rw [(s6 jo' (Ne.symm hij') hos').2.2.2.1, c4o.2.2.2.1]
        show xQ (xs_wQ ξ1 jo' (va_cpy (xQ ξ1 jo) (xQ ξ1 jo') 0 0 k)) jo' q = _
        rw [wQ_s]
        show (if 0 ≤ q ∧ q < 0 + k then xQ ξ1 jo (0 + (q - 0)) else _) = _
        rw [if_pos ⟨Nat.zero_le _, by omega⟩, show 0 + (q - 0) = q by omega, (sc1 jo a2.1).2.2.2.1]
      have ha4 : ∀ q, q < k → xA (xs_sR (xs_wA ξ4 js' (va_cpy (xA ξ4 js) (xA ξ4 js') 0 0 l)) i 3 (some σ3.2.1)) js' q = xA ξ js q := fun q hq => by
        show xA (xs_wA ξ4 js' (va_cpy (xA ξ4 js) (xA ξ4 js') 0 0 l)) js' q = _
        rw [wA_s]
        show (if 0 ≤ q ∧ q < 0 + l then xA ξ4 js (0 + (q - 0)) else _) = _
        rw [if_pos ⟨Nat.zero_le _, by omega⟩, show 0 + (q - 0) = q by omega]
        exact as q
      refine X_chainAdd58 H6 hCN (by omega) (by omega) hw hsg hy fun ξ' σ' H' e' c' s' q' w' g' => h D4 ξ' σ' jo' js' _ _ _ (xd1.trans xd4) td4 (Or.inr njo) (Or.inr fun hq => njs (xd1.has hq)) H' (((cr4.eq e5).eq e6).eq e') c' (fun q hq h1 h2 h3 => ?_) (fun q hq => ⟨(q' q hq).1.trans (hq4 q hq), (q' q hq).2.trans (ha4 q hq)⟩) w' g'
      have hqo : q ≠ jo' := fun e => njo (e ▸ hq)
      have hqs : q ≠ js' := fun e => njs (e ▸ xd1.has hq)
      exact (((sc1 q hq).trans (s3 q h1 hqo)).trans (sc4 q (xd1.has hq))).trans ((s6 q h1 hqs).trans (s' q h1 hqo hqs))
    · have := (nI_eq (show 2 * k < 2 ^ 31 by omega) (show l < 2 ^ 31 by omega)).mp e
      omega
/-- the chain is done -/
theorem X_chainDone (H : XS F D ξ σ) {D0 : xs_D} (hD : XD D0 D) {i jo js r oa sa fi k l : Nat} {t : Term} (hc : CN D ξ i jo js r oa sa fi k l) (hi : ¬ D0.2.2 i) (hjo : ¬ D0.2.2 jo) (hjs : ¬ D0.2.2 js) (hk : 1 ≤ k) (hl : l < 65536) (ht : xT F t true (xQ ξ jo) (xA ξ js) fi k) : ∃ F', FE F F' ∧ XS F' D0 ξ σ ∧ xE F' t r := by
  obtain ⟨a1, a2, a3, a4, a5, a6, a7, a8, a9, a10, a11, a12, a13, a14, a15, hv, hv1, hv2⟩ := hc
  obtain ⟨H1, hF1⟩ := H.frz a1 (fun h hh => tf_of (by decide) fun k hk => by
    have hk5 : k = 5 := by simpa [tfs] using hk
    subst hk5
    rw [hv1, ← hh.2.1, ← hv2.2.1])
  have b2 : rl (D.1, D.2.1, fun q => q ≠ i ∧ D.2.2 q) jo oa 106 := ⟨⟨Ne.symm a4, a2.1⟩, a2.2.1, a2.2.2⟩
  obtain ⟨H2, hF2⟩ := H1.frz b2 (fun _ _ => tf_no (by decide))
  have b3 : rl (D.1, D.2.1, fun q => q ≠ jo ∧ q ≠ i ∧ D.2.2 q) js sa 102 := ⟨⟨Ne.symm a6, Ne.symm a5, a3.1⟩, a3.2.1, a3.2.2⟩
  obtain ⟨H3, hF3⟩ := H2.frz b3 (fun _ _ => tf_no (by decide))
  have n1 : oa ≠ r := fun e => a4 (H.2.2.1 i jo a1.1 a2.1 (by rw [a1.2.1, a2.2.1, e]))
  have n2 : sa ≠ r := fun e => a5 (H.2.2.1 i js a1.1 a3.1 (by rw [a1.2.1, a3.2.1, e]))
  have n3 : sa ≠ oa := fun e => a6 (H.2.2.1 jo js a2.1 a3.1 (by rw [a2.2.1, a3.2.1, e]))
  have hFE : FE F (fzF (fzF (fzF F r (xs_E 16 i ξ)) oa (xs_E 106 jo ξ)) sa (xs_E 102 js ξ)) := ((fzF_FE hF1).trans (fzF_FE hF2)).trans (fzF_FE hF3)
  refine ⟨_, hFE, H3.cong (((hD.drop hi).drop hjo).drop hjs), ?_⟩
  have e1 : fzF (fzF (fzF F r (xs_E 16 i ξ)) oa (xs_E 106 jo ξ)) sa (xs_E 102 js ξ) r = some (xs_E 16 i ξ) := by
    unfold fzF
    rw [if_neg (Ne.symm n2), if_neg (Ne.symm n1), if_pos rfl]
  have e2 : fzF (fzF (fzF F r (xs_E 16 i ξ)) oa (xs_E 106 jo ξ)) sa (xs_E 102 js ξ) oa = some (xs_E 106 jo ξ) := by
    unfold fzF
    rw [if_neg (Ne.symm n3), if_pos rfl]
  refine xT.close (oa := oa) (sa := sa) (l := l) (e1.trans rfl) ?_ ?_ ?_ ?_ (e2.trans ?_) (fzF_s.trans ?_) a13 hl hk t (xT.mono hFE t _ _ _ _ _ ht)
  · show (if xs_rf 16 1 = true then va_rf (xR ξ i 1) else _) = _
    rw [if_pos (by decide), a7]
  · show (if xs_rf 16 2 = true then va_rf (xR ξ i 2) else _) = _
    rw [if_pos (by decide), a8]
  · show (if xs_rf 16 3 = true then va_rf (xR ξ i 3) else _) = _
    rw [if_pos (by decide), a9]
  · show (if xs_rf 16 4 = true then _ else Value.int (xI ξ i 4)) = _
    rw [if_neg (by decide), a10]
  · unfold xs_E
    rw [if_neg (by decide), if_neg (by decide), if_neg (by decide), if_neg (by decide), a11]
  · unfold xs_E
    rw [if_neg (by decide), if_neg (by decide), if_pos (by decide), a12]
end
