set_option maxRecDepth 100000
/-! ===== the plain parser: patches ===== -/
/-- a member; one that goes; one renamed; a rule -/
abbrev Edt : Type := Mem ⊕ (Int32 ⊕ ((Int32 × Int32) ⊕ (Int32 × Term)))
/-- a kind comes (name, above, members); edits; a kind goes; it moves; a check -/
abbrev Chg : Type := (Int32 × Option Int32 × List Mem) ⊕ ((Int32 × List Edt) ⊕ (Int32 ⊕ ((Int32 × Option Int32) ⊕ (Int32 × Term))))
def noC : Nat → Int32 → Option Int32 := fun _ _ => none
def ps_xp (T : Nat → Int32) : Nat → ps_N → ps_R Term := ps_exp T (ps_unit T 12)
def ps_under (T : Nat → Int32) (p : Nat) (N : ps_N) : ps_R (Option Int32) := if lxt T p = 101 then ps_b (ps_name T (lxe T p) N) fun n p1 N1 => ps_ok (some (nI n)) p1 N1 else ps_ok none p N
/-- things up to a brace -/
def ps_list {α : Type} (T : Nat → Int32) (it : Nat → ps_N → ps_R α) : Nat → Nat → ps_N → ps_R (List α)
  | 0, p, N => ps_f 0 p N
  | g + 1, p, N => if lxt T p = 325 then ps_ok [] (lxe T p) N else ps_b (it p N) fun a p' N' => ps_b (ps_list T it g p' N') fun l p2 N2 => ps_ok (a :: l) p2 N2
def ps_brace {α : Type} (T : Nat → Int32) (it : Nat → ps_N → ps_R α) (p : Nat) (N : ps_N) : ps_R (List α) := ps_b (ps_need T 123 p N) fun _ p' N' => ps_list T it 1001 p' N'
def ps_end {α : Type} (T : Nat → Int32) (a : α) (p : Nat) (N : ps_N) : ps_R α := ps_b (ps_need T 59 p N) fun _ p' N' => ps_ok a p' N'
def ps_edit (T : Nat → Int32) (p : Nat) (N : ps_N) : ps_R Edt :=
  if lxt T p = 117 then ps_b (ps_name T (lxe T p) N) fun n p1 N1 => ps_end T (.inr (.inl (nI n))) p1 N1
  else if lxt T p = 119 then ps_b (ps_name T (lxe T p) N) fun a p1 N1 => ps_b (ps_name T p1 N1) fun b p2 N2 => ps_end T (.inr (.inr (.inl (nI a, nI b)))) p2 N2
  else if lxt T p = 120 then ps_b (ps_name T (lxe T p) N) fun n p1 N1 => ps_b (ps_xp T p1 N1) fun e p2 N2 => ps_end T (.inr (.inr (.inr (nI n, e)))) p2 N2
  else ps_b (ps_mem T noC p N) fun m p1 N1 => ps_ok (.inl m) p1 N1
def ps_change (T : Nat → Int32) (p : Nat) (N : ps_N) : ps_R Chg :=
  if ¬ (lxt T p = 100 ∨ (116 ≤ lxt T p ∧ lxt T p ≤ 118) ∨ lxt T p = 121) then ps_f 1 (lxa T p) N
  else ps_b (ps_name T (lxe T p) N) fun n p1 N1 =>
    if lxt T p = 100 then ps_b (ps_under T p1 N1) fun ab p2 N2 => ps_b (ps_brace T (ps_mem T noC) p2 N2) fun ms p3 N3 => ps_ok (.inl (nI n, ab, ms)) p3 N3
    else if lxt T p = 116 then ps_b (ps_brace T (ps_edit T) p1 N1) fun es p2 N2 => ps_ok (.inr (.inl (nI n, es))) p2 N2
    else if lxt T p = 121 then ps_b (ps_xp T p1 N1) fun e p2 N2 => ps_end T (.inr (.inr (.inr (.inr (nI n, e))))) p2 N2
    else if lxt T p = 118 then ps_b (ps_under T p1 N1) fun ab p2 N2 => ps_end T (.inr (.inr (.inr (.inl (nI n, ab))))) p2 N2
    else ps_end T (.inr (.inr (.inl (nI n)))) p1 N1
def ps_patch (T : Nat → Int32) : Nat → Nat → ps_N → ps_R (List Chg)
  | 0, p, N => ps_f 0 p N
  | g + 1, p, N => ps_b (ps_change T p N) fun c p' N' => if lxt T p' = 0 then ps_ok [c] p' N' else ps_b (ps_patch T g p' N') fun l p2 N2 => ps_ok (c :: l) p2 N2
/-! nodes -/
/-- a row of nodes, each the next one's -/
def isLk {α : Type} (nd : Nat → Int32) (B lo : Nat) (P : α → Nat → Prop) : List α → Nat → Int32 → Prop
  | [], _, x => x = -1
  | a :: l, m, x => ∃ k, x = nI k ∧ lo ≤ k ∧ k < m ∧ P a k ∧ isLk nd B lo P l m (nf nd B k 4)
def isEd (nd : Nat → Int32) (B lo : Nat) (e : Edt) (k : Nat) : Prop := match e with
  | .inl m => isMn nd B lo m k
  | .inr (.inl n) => nf nd B k 0 = 33 ∧ nf nd B k 1 = n
  | .inr (.inr (.inl (a, b))) => nf nd B k 0 = 34 ∧ nf nd B k 1 = a ∧ nf nd B k 2 = b
  | .inr (.inr (.inr (n, t))) => nf nd B k 0 = 35 ∧ nf nd B k 1 = n ∧ ∃ i, i < k ∧ nf nd B k 2 = nI i ∧ isE nd B lo t i
def oN (o : Option Int32) : Int32 := match o with
  | none => -1
  | some n => n
def isCh (nd : Nat → Int32) (B lo : Nat) (c : Chg) (k : Nat) : Prop := match c with
  | .inl (n, ab, ms) => nf nd B k 0 = 40 ∧ nf nd B k 1 = n ∧ nf nd B k 2 = oN ab ∧ isLk nd B lo (isMn nd B lo) ms k (nf nd B k 3)
  | .inr (.inl (n, es)) => nf nd B k 0 = 41 ∧ nf nd B k 1 = n ∧ isLk nd B lo (isEd nd B lo) es k (nf nd B k 3)
  | .inr (.inr (.inl n)) => nf nd B k 0 = 42 ∧ nf nd B k 1 = n
  | .inr (.inr (.inr (.inl (n, ab)))) => nf nd B k 0 = 43 ∧ nf nd B k 1 = n ∧ nf nd B k 2 = oN ab
  | .inr (.inr (.inr (.inr (n, t)))) => nf nd B k 0 = 44 ∧ nf nd B k 1 = n ∧ ∃ i, i < k ∧ nf nd B k 2 = nI i ∧ isE nd B lo t i
/-- what is said of a node stays while the nodes below it, from lo on, and its own first fields stay -/
def kep {α : Type} (P : (Nat → Int32) → Nat → α → Nat → Prop) : Prop := ∀ (nd nd' : Nat → Int32) (lo k : Nat) (a : α), lo ≤ k → (∀ q, 5 * (8400 + lo) ≤ q → q < 5 * (8400 + k) + 4 → nd' q = nd q) → P nd lo a k → P nd' lo a k
/-- the bound below may be lower -/
def low {α : Type} (P : (Nat → Int32) → Nat → α → Nat → Prop) : Prop := ∀ (nd : Nat → Int32) (lo l2 k : Nat) (a : α), l2 ≤ lo → P nd lo a k → P nd l2 a k
theorem isMn_kep : kep (fun nd lo => isMn nd 8400 lo) := fun nd nd' lo k m hl h hM => by
  have hf : ∀ f, f < 4 → nf nd' 8400 k f = nf nd 8400 k f := fun f hf => h _ (by omega) (by omega)
  obtain ⟨a1, a2, a3, a4⟩ := hM
  refine ⟨(hf 1 (by decide)).trans a1, fun e => ?_, fun e => ?_, fun e => ?_⟩
  · obtain ⟨b1, b2⟩ := a2 e
    refine ⟨(hf 0 (by decide)).trans b1, ?_⟩
    rw [hf 2 (by decide)]
    exact isB.mono (M := k) (fun q h1 h2 => h q h1 (by omega)) _ k _ (Nat.le_refl _) b2
  · obtain ⟨b1, b2⟩ := a3 e
    exact ⟨(hf 0 (by decide)).trans b1, (hf 2 (by decide)).trans b2⟩
  · obtain ⟨b1, b2⟩ := a4 e
    exact ⟨(hf 0 (by decide)).trans b1, (hf 2 (by decide)).trans b2⟩
theorem isMn_low : low (fun nd lo => isMn nd 8400 lo) := fun nd lo l2 k m hl hM => ⟨hM.1, fun e => ⟨(hM.2.1 e).1, isB.lo hl _ _ _ (hM.2.1 e).2⟩, hM.2.2⟩
theorem isEd_kep : kep (fun nd lo => isEd nd 8400 lo) := fun nd nd' lo k e hl h hE => by
  have hf : ∀ f, f < 4 → nf nd' 8400 k f = nf nd 8400 k f := fun f hf => h _ (by omega) (by omega)
  match e, hE with
  | .inl m, hE => exact isMn_kep nd nd' lo k m hl h hE
  | .inr (.inl n), hE => exact ⟨(hf 0 (by decide)).trans hE.1, (hf 1 (by decide)).trans hE.2⟩
  | .inr (.inr (.inl (a, b))), hE => exact ⟨(hf 0 (by decide)).trans hE.1, (hf 1 (by decide)).trans hE.2.1, (hf 2 (by decide)).trans hE.2.2⟩
  | .inr (.inr (.inr (n, t))), hE =>
    obtain ⟨b1, b2, i, b3, b4, b5⟩ := hE
    exact ⟨(hf 0 (by decide)).trans b1, (hf 1 (by decide)).trans b2, i, b3, (hf 2 (by decide)).trans b4, isE.mono (m := k) (fun q h1 h2 => h q h1 (by omega)) b3 b5⟩
theorem isEd_low : low (fun nd lo => isEd nd 8400 lo) := fun nd lo l2 k e hl hE => by
  match e, hE with
  | .inl m, hE => exact isMn_low nd lo l2 k m hl hE
  | .inr (.inl n), hE => exact hE
  | .inr (.inr (.inl (a, b))), hE => exact hE
  | .inr (.inr (.inr (n, t))), hE =>
    obtain ⟨b1, b2, i, b3, b4, b5⟩ := hE
    exact ⟨b1, b2, i, b3, b4, b5.lo hl⟩
theorem isLk.low {α : Type} {P : (Nat → Int32) → Nat → α → Nat → Prop} (hP : low P) {nd : Nat → Int32} {lo l2 : Nat} (hl : l2 ≤ lo) : ∀ {l : List α} {m : Nat} {x : Int32}, isLk nd 8400 lo (P nd lo) l m x → isLk nd 8400 l2 (P nd l2) l m x
  | [], m, x, h => h
  | a :: l, m, x, ⟨k, h1, h2, h3, h4, h5⟩ => ⟨k, h1, by omega, h3, hP nd lo l2 k a hl h4, h5.low hP hl⟩
theorem isLk.up {α : Type} {P : (Nat → Int32) → Nat → α → Nat → Prop} {nd : Nat → Int32} {lo m m2 : Nat} (hm : m ≤ m2) : ∀ {l : List α} {x : Int32}, isLk nd 8400 lo (P nd lo) l m x → isLk nd 8400 lo (P nd lo) l m2 x
  | [], x, h => h
  | a :: l, x, ⟨k, h1, h2, h3, h4, h5⟩ => ⟨k, h1, h2, by omega, h4, h5.up hm⟩
theorem isLk.mono {α : Type} {P : (Nat → Int32) → Nat → α → Nat → Prop} (hP : kep P) {nd nd' : Nat → Int32} {lo m : Nat} (h : ∀ q, 5 * (8400 + lo) ≤ q → q < 5 * (8400 + m) → nd' q = nd q) : ∀ {l : List α} {x : Int32}, isLk nd 8400 lo (P nd lo) l m x → isLk nd' 8400 lo (P nd' lo) l m x
  | [], x, h9 => h9
  | a :: l, x, ⟨k, h1, h2, h3, h4, h5⟩ => by
    refine ⟨k, h1, h2, h3, hP nd nd' lo k a h2 (fun q q1 q2 => h q q1 (by omega)) h4, ?_⟩
    rw [nf_eq h h2 h3 (by decide)]
    exact h5.mono hP h
theorem isCh_kep : kep (fun nd lo => isCh nd 8400 lo) := fun nd nd' lo k c hl h hC => by
  have hf : ∀ f, f < 4 → nf nd' 8400 k f = nf nd 8400 k f := fun f hf => h _ (by omega) (by omega)
  have h' : ∀ q, 5 * (8400 + lo) ≤ q → q < 5 * (8400 + k) → nd' q = nd q := fun q h1 h2 => h q h1 (by omega)
  match c, hC with
  | .inl (n, ab, ms), hC =>
    obtain ⟨b1, b2, b3, b4⟩ := hC
    refine ⟨(hf 0 (by decide)).trans b1, (hf 1 (by decide)).trans b2, (hf 2 (by decide)).trans b3, ?_⟩
    rw [hf 3 (by decide)]
    exact isLk.mono (P := fun nd lo => isMn nd 8400 lo) isMn_kep h' b4
  | .inr (.inl (n, es)), hC =>
    obtain ⟨b1, b2, b4⟩ := hC
    refine ⟨(hf 0 (by decide)).trans b1, (hf 1 (by decide)).trans b2, ?_⟩
    rw [hf 3 (by decide)]
    exact isLk.mono (P := fun nd lo => isEd nd 8400 lo) isEd_kep h' b4
  | .inr (.inr (.inl n)), hC => exact ⟨(hf 0 (by decide)).trans hC.1, (hf 1 (by decide)).trans hC.2⟩
  | .inr (.inr (.inr (.inl (n, ab)))), hC => exact ⟨(hf 0 (by decide)).trans hC.1, (hf 1 (by decide)).trans hC.2.1, (hf 2 (by decide)).trans hC.2.2⟩
  | .inr (.inr (.inr (.inr (n, t)))), hC =>
    obtain ⟨b1, b2, i, b3, b4, b5⟩ := hC
    exact ⟨(hf 0 (by decide)).trans b1, (hf 1 (by decide)).trans b2, i, b3, (hf 2 (by decide)).trans b4, isE.mono (m := k) h' b3 b5⟩
theorem isCh_low : low (fun nd lo => isCh nd 8400 lo) := fun nd lo l2 k c hl hC => by
  match c, hC with
  | .inl (n, ab, ms), hC => exact ⟨hC.1, hC.2.1, hC.2.2.1, isLk.low (P := fun nd lo => isMn nd 8400 lo) isMn_low hl hC.2.2.2⟩
  | .inr (.inl (n, es)), hC => exact ⟨hC.1, hC.2.1, isLk.low (P := fun nd lo => isEd nd 8400 lo) isEd_low hl hC.2.2⟩
  | .inr (.inr (.inl n)), hC => exact hC
  | .inr (.inr (.inr (.inl (n, ab)))), hC => exact hC
  | .inr (.inr (.inr (.inr (n, t)))), hC =>
    obtain ⟨b1, b2, i, b3, b4, b5⟩ := hC
    exact ⟨b1, b2, i, b3, b4, b5.lo hl⟩
/-! ===== the model: patches are read ===== -/
/-- what is asked of the reading of a thing that is one node -/
def ItY {α : Type} (ks : List Nat) (T : Nat → Int32) (μ0 : mm_S) (p0 c0 pl : Nat) (P : (Nat → Int32) → Nat → α → Nat → Prop) (res : ps_R α) (Q : Int32 → mm_S → Prop) : Prop := ∀ a p' N', res = ps_ok a p' N' → pl < p' → ∀ c' k μ', CX ks T μ0 p0 c0 p' N' c' μ' → c0 ≤ k → k < c' → mI μ' 22 = nI k → P (mA μ' 15) c0 a k → nf (mA μ' 15) 8400 k 4 = -1 → Q 1 μ'
/-- a reader of things that are one node each -/
def SubI {α : Type} (W : mm_S → (Int32 → mm_S → Prop) → Prop) (ks : List Nat) (T : Nat → Int32) (P : (Nat → Int32) → Nat → α → Nat → Prop) (it : Nat → ps_N → ps_R α) : Prop := ∀ (μ0 : mm_S) (p0 c0 p : Nat) (N : ps_N) (c : Nat) (μ : mm_S) (Q : Int32 → mm_S → Prop), CX ks T μ0 p0 c0 p N c μ → ItY ks T μ0 p0 c0 p P (it p N) Q → StN ks μ0 c0 (it p N) Q → W μ Q
section
variable {G : am_G} {ρ : mm_F} {d : Nat} {T : Nat → Int32} {ks : List Nat} {p0 c0 p c : Nat} {N : ps_N} {μ0 μ : mm_S}
/-- from here on, as if it began here -/
theorem CX.at0 (H : CX ks T μ0 p0 c0 p N c μ) : CX ks T μ p c p N c μ := CX.start H.1 (by
  obtain ⟨-, -, -, h1, h2, h3, h4⟩ := H
  omega)
theorem CX.from_ (H : CX ks T μ0 p0 c0 p N c μ) {p' c' : Nat} {N' : ps_N} {μ' : mm_S} (H' : CX ks T μ p c p' N' c' μ') : CX ks T μ0 p0 c0 p' N' c' μ' := by
  obtain ⟨b1, b2, b3, b4, b5, b6, b7⟩ := H
  obtain ⟨e1, e2, e3, e4, e5, e6, e7⟩ := H'
  exact ⟨e1, b2.trans e2, b3.trans e3 b4, by omega, by omega, by omega, b7⟩
theorem CX.fft (H : CX ks T μ0 p0 c0 p N c μ) {μ' : mm_S} (h : ff ks c μ μ') : ff ks c0 μ0 μ' := ⟨H.2.1.trans h.1, H.2.2.1.trans h.2 H.2.2.2.1⟩
/-- members of a patch -/
theorem S_memI (hk : ksP ks) (h23 : 23 ∈ ks) (h24 : 24 ∈ ks) (hd : 48 ≤ d) : SubI (W_X6_member G ρ (d + 15) (-1)) ks T (fun nd lo => isMn nd 8400 lo) (ps_mem T noC) := fun μ0 p0 c0 p N c μ Q H hY hN =>
  S_mem (wo := none) H hk h23 h24 hd trivial (fun m p' N' h1 hp c' k μ' H' a1 a2 a3 a4 a5 _ => hY m p' N' h1 hp c' k μ' H' a1 a2 a3 a4 a5) hN
/-- the node of an edit or a change, and a semicolon -/
theorem S_end {α : Type} {P : (Nat → Int32) → Nat → α → Nat → Prop} {a : α} {o a1 a2 a3 : Int32} {pl : Nat} {Q : Int32 → mm_S → Prop} (H : CX ks T μ0 p0 c0 p N c μ) (hk : ksP ks) (hpl : pl ≤ p) (hc : c + p0 < p + c0) (hT : ∀ nd : Nat → Int32, (∀ q, q < 5 * (8400 + c) → nd q = mA μ 15 q) → nf nd 8400 c 0 = o → nf nd 8400 c 1 = a1 → nf nd 8400 c 2 = a2 → nf nd 8400 c 3 = a3 → P nd c0 a c) (hY : ItY ks T μ0 p0 c0 pl P (ps_end T a p N) Q) (hN : StN ks μ0 c0 (ps_end T a p N) Q) : W_X6_node G ρ (d + 4) o a1 a2 a3 μ (fun v μ1 => ∀ μ3 : mm_S, μ3 = mm_sI μ1 22 v → W_X6_need G ρ (d + 4) 59 μ3 (fun v5 μ4 => narrow .boolean (.int v5) = .int v5 ∧ Q v5 μ4)) := by
  have hcc : c0 ≤ c := H.2.2.2.1
  refine H.node hk hc fun μ1 f1 g1 n0 n1 n2 n3 n4 H1 μ3 e3 => ?_
  have f3 : fr [22] μ1 μ3 := by rw [e3]; exact fr.refl.sI (by decide)
  have H3 := H1.setI e3 (hk 22 (by decide)) (by decide) (by decide)
  refine H3.need hk (by decide) (fun h59 μ4 f4 hg H4 => ⟨rfl, ?_⟩) fun h59 μ4 f4 hF => ⟨rfl, hN 1 _ N (by unfold ps_end ps_need; rw [if_neg h59]; rfl) (by decide) μ4 f4 hF⟩
  have e15 : mA μ4 15 = mA μ1 15 := (f4.eA (by decide)).trans (f3.eA (by decide))
  refine hY a (lxe T p) N (by unfold ps_end ps_need; rw [if_pos h59]; rfl) (by omega) (c + 1) c μ4 H4 hcc (by omega) ?_ ?_ ?_
  · rw [f4.eI (by decide), e3, mI_s]
  · rw [e15]
    exact hT _ g1 n0 n1 n2 n3
  · rw [e15]; exact n4
theorem S_edit (hk : ksP ks) (h23 : 23 ∈ ks) (h24 : 24 ∈ ks) (hd : 48 ≤ d) : SubI (W_X6_editOf G ρ (d + 16)) ks T (fun nd lo => isEd nd 8400 lo) (ps_edit T) := fun μ0 p0 c0 p N c μ Q H hY hN => by
  have hcp0 : c + p0 ≤ p + c0 := H.2.2.2.2.2.1
  have hcc0 : c0 ≤ c := H.2.2.2.1
  unfold ps_edit at hY hN
  refine W_X6_editOf_f ?_
  rw [H.tk]
  refine ⟨fun n117 => ?_, fun c117 => ?_⟩
  · rw [if_neg n117] at hY hN
    refine ⟨fun n119 => ?_, fun c119 => ?_⟩
    · rw [if_neg n119] at hY hN
      refine ⟨fun c120 => ?_, fun n120 => ?_⟩
      · rw [if_pos c120] at hY hN
        refine H.next hk (by rw [c120]; decide) fun μ1 f1 hg1 H1 => H1.named hk (fun n p1 N1 h1 hn hnN hp1 μ2 f2 e17 H2 => y1 ?_) fun k q N' h1 h0 μ' f hF => z1 (hN k q N' (by rw [h1]; rfl) h0 μ' f hF)
        rw [h1] at hY hN
        have hN2 : StN ks μ0 c0 (ps_b (ps_xp T p1 N1) fun e p2 N2 => ps_end T (.inr (.inr (.inr (nI n, e)))) p2 N2 : ps_R Edt) Q := hN
        have hY2 : ItY ks T μ0 p0 c0 p (fun nd lo => isEd nd 8400 lo) (ps_b (ps_xp T p1 N1) fun e p2 N2 => ps_end T (.inr (.inr (.inr (nI n, e)))) p2 N2) Q := hY
        intro μ4 e4
        have H4 := H2.setI e4 (hk 18 (by decide)) (by decide) (by decide)
        have f4 : fr [18] μ2 μ4 := by rw [e4]; exact fr.refl.sI (by decide)
        refine H4.sub hk (S_expr (r := 12) (d := d + 7) (by omega) (by omega)) (by rw [e4, mI_s]; rfl) (fun e p2 N2 h2 hp2 c2 k2 μ5 f5 g5 m18 hcc hcp hkc e19 hE H5 => y1 ?_) fun k q N' h2 h0 μ' f hF => z1 (hN2 k q N' (by rw [show ps_xp T p1 N1 = _ from h2]; rfl) h0 μ' f hF)
        have h2' : ps_xp T p1 N1 = ps_ok e p2 N2 := h2
        rw [h2'] at hY2 hN2
        refine S_end (d := d + 11) (P := fun nd lo => isEd nd 8400 lo) (a := .inr (.inr (.inr (nI n, e)))) H5 hk (by omega) (by omega) (fun nd hnd n0 n1 n2 n3 => ?_) hY2 hN2
        exact ⟨n0, n1.trans e17, k2, hkc, n2.trans e19, (isE.mono (m := c2) (fun q _ hq => hnd q hq) hkc hE).lo hcc0⟩
      · rw [if_neg n120] at hY hN
        refine S_memI (d := d) hk h23 h24 hd μ0 p0 c0 p N c μ _ H (fun m p' N' h1 hp c' k μ' H' b1 b2 b3 b4 b5 => ⟨rfl, hY (.inl m) p' N' (by rw [h1]; rfl) hp c' k μ' H' b1 b2 b3 b4 b5⟩) fun k q N' h1 h0 μ' f hF => ⟨rfl, hN k q N' (by rw [h1]; rfl) h0 μ' f hF⟩
    · rw [if_pos c119] at hY hN
      refine H.next hk (by rw [c119]; decide) fun μ1 f1 hg1 H1 => H1.named hk (fun a p1 N1 h1 hn hnN hp1 μ2 f2 e17 H2 => y1 ?_) fun k q N' h1 h0 μ' f hF => z1 (hN k q N' (by rw [h1]; rfl) h0 μ' f hF)
      rw [h1] at hY hN
      have hN2 : StN ks μ0 c0 (ps_b (ps_name T p1 N1) fun b p2 N2 => ps_end T (.inr (.inr (.inl (nI a, nI b)))) p2 N2 : ps_R Edt) Q := hN
      have hY2 : ItY ks T μ0 p0 c0 p (fun nd lo => isEd nd 8400 lo) (ps_b (ps_name T p1 N1) fun b p2 N2 => ps_end T (.inr (.inr (.inl (nI a, nI b)))) p2 N2) Q := hY
      refine H2.named hk (fun b p2 N2 h2 hb hbN hp2 μ3 f3 e17b H3 => y1 ?_) fun k q N' h2 h0 μ' f hF => z1 (hN2 k q N' (by rw [h2]; rfl) h0 μ' f hF)
      rw [h2] at hY2 hN2
      exact S_end (d := d + 11) (P := fun nd lo => isEd nd 8400 lo) (a := .inr (.inr (.inl (nI a, nI b)))) H3 hk (by omega) (by omega) (fun nd hnd n0 n1 n2 n3 => ⟨n0, n1.trans e17, n2.trans e17b⟩) hY2 hN2
  · rw [if_pos c117] at hY hN
    refine H.next hk (by rw [c117]; decide) fun μ1 f1 hg1 H1 => H1.named hk (fun a p1 N1 h1 hn hnN hp1 μ2 f2 e17 H2 => y1 ?_) fun k q N' h1 h0 μ' f hF => z1 (hN k q N' (by rw [h1]; rfl) h0 μ' f hF)
    rw [h1] at hY hN
    exact S_end (d := d + 11) (P := fun nd lo => isEd nd 8400 lo) (a := .inr (.inl (nI a))) H2 hk (by omega) (by omega) (fun nd hnd n0 n1 n2 n3 => ⟨n0, n1.trans e17⟩) hY hN
/-- things behind the first: the last one so far is tl -/
theorem S_several_l {α : Type} {P : (Nat → Int32) → Nat → α → Nat → Prop} (hP : kep P) (hL : low P) {it : Nat → ps_N → ps_R α} {x1 : Int32} (hk : ksP ks) (hs : (x1 = 0 ∧ SubI (W_X6_member G ρ (d + 16) (-1)) ks T P it) ∨ (¬ x1 = 0 ∧ SubI (W_X6_editOf G ρ (d + 16)) ks T P it)) {x2 : Int32} (hx2 : ¬ x2 = -1) {Q : Int32 → mm_S → Prop} : ∀ (g p : Nat) (N : ps_N) (c tl : Nat) (x3 : Int32) (μ : mm_S), CX ks T μ0 p0 c0 p N c μ → 1001 ≤ p + g → x3 = nI tl → c0 ≤ tl → tl < c → nf (mA μ 15) 8400 tl 4 = -1 →
    (∀ b p' N', ps_list T it g p N = ps_ok b p' N' → p < p' → ∀ c' μ', CX ks T μ0 p0 c0 p' N' c' μ' → c ≤ c' → (∀ q, q < 5 * (8400 + c) → 5 * (8400 + c0) ≤ q → ¬ q = 5 * (8400 + tl) + 4 → mA μ' 15 q = mA μ 15 q) → isLk (mA μ' 15) 8400 c0 (P (mA μ' 15) c0) b c' (nf (mA μ' 15) 8400 tl 4) → mI μ' 21 = x2 → Q 1 μ') →
    (StN ks μ0 c0 (ps_list T it g p N) Q) → B_X6_several_15 G ρ (d + 17) x1 x2 x3 μ Q
  | 0, p, N, c, tl, x3, μ, H, hg, hx3, htl0, htl, hnf, hy, hn => by
    have := H.p_le
    omega
  | g + 1, p, N, c, tl, x3, μ, H, hg, hx3, htl0, htl, hnf, hy, hn => by
    have h1000 := H.p_le
    have hcc0 : c0 ≤ c := H.2.2.2.1
    have hcx : c ≤ 1000 := by
      obtain ⟨-, -, -, h0, h1, h2, h3⟩ := H
      omega
    refine B_X6_several_15_f (S_isSign H.1 ?_)
    by_cases h125 : lxt T p = 200 + 125
    · rw [if_pos h125]
      refine y1 (H.next hk (by rw [h125]; decide) fun μ3 f3 hg3 H3 μ4 e4 => ?_)
      have f4 : fr [21] μ3 μ4 := by rw [e4]; exact fr.refl.sI (by decide)
      have e15 : mA μ4 15 = mA μ 15 := (f4.eA (by decide)).trans (f3.eA (by decide))
      refine hy [] (lxe T p) N ?_ hg3 c μ4 (H3.setI e4 (hk 21 (by decide)) (by decide) (by decide)) (Nat.le_refl c) (fun q _ _ _ => by rw [e15]) ?_ ?_
      · unfold ps_list
        rw [if_pos (show lxt T p = 325 from h125)]
      · rw [e15, hnf]; rfl
      · rw [e4, mI_s]
    · rw [if_neg h125]
      refine z1 ?_
      have hst : ps_list T it (g + 1) p N = ps_b (it p N) fun a p' N' => ps_b (ps_list T it g p' N') fun l p2 N2 => ps_ok (a :: l) p2 N2 := by
        rw [ps_list, if_neg (show ¬ lxt T p = 325 from h125)]
      have main : ∀ (W : mm_S → (Int32 → mm_S → Prop) → Prop), SubI W ks T P it → W μ (fun v6 μ5 => (¬ v6 = 0 → B_X6_several_48 G ρ (d + 17) x1 x2 x3 μ5 Q) ∧ (v6 = 0 → Q 0 μ5)) := fun W hW => by
        refine hW μ p c p N c μ _ H.at0 (fun t p1 N1 h1 hp1 c1 k μ5 H5 hck hkc e22 hT hk4 => y1 ?_) fun k q N' h1 h0 μ5 f5 hF => z1 (hn k q N' (by rw [hst, h1]; rfl) h0 μ5 (H.fft f5) hF)
        rw [h1] at hst
        have hst2 : ps_list T it (g + 1) p N = ps_b (ps_list T it g p1 N1) fun l p2 N2 => ps_ok (t :: l) p2 N2 := hst
        have g5 : fn c μ μ5 := H5.2.2.1.1
        have hcc : c ≤ c1 := H5.2.2.2.1
        have H5' := H.from_ H5
        refine B_X6_several_48_f ⟨fun _ => S_link hx3 (by omega) ?_, fun c1 => absurd c1 hx2⟩
        have e22' : ∀ v, mI (mm_sA μ5 15 (5 * (8400 + tl) + 4) v) 22 = mI μ5 22 := fun _ => rfl
        rw [e22']
        have f7 : fr [15] μ5 (mm_sA μ5 15 (5 * (8400 + tl) + 4) (mI μ5 22)) := fr.refl.sA (by decide)
        have g7 : ∀ q, ¬ q = 5 * (8400 + tl) + 4 → mA (mm_sA μ5 15 (5 * (8400 + tl) + 4) (mI μ5 22)) 15 q = mA μ5 15 q := fun q hq => mA_i hq
        have H7 : CX ks T μ0 p0 c0 p1 N1 c1 (mm_sA μ5 15 (5 * (8400 + tl) + 4) (mI μ5 22)) := by
          obtain ⟨b1, b2, b3, b4, b5, b6, b7⟩ := H5'
          exact ⟨b1.fr f7 (by decide), b2.trans (f7.more fun k h => hk k ((by decide : ∀ k ∈ [15], k ∈ pks) k h)), ⟨fun q hq => (g7 q (by omega)).trans (b3.1 q hq), b3.2.trans (f7.w1 (by decide))⟩, b4, b5, b6, b7⟩
        have htk : ¬ 5 * (8400 + k) + 4 = 5 * (8400 + tl) + 4 := by omega
        refine S_several_l hP hL hk hs hx2 g p1 N1 c1 k _ _ H7 (by omega) e22 (by omega) hkc ?_ (fun b p' N' h2 hp2 c' μ' H' hcc2 heq hB h21 => ?_) fun k q N' h2 h0 μ' f' hF => hn k q N' (by rw [hst2, h2]; rfl) h0 μ' f' hF
        · show mA (mm_sA μ5 15 (5 * (8400 + tl) + 4) (mI μ5 22)) 15 (5 * (8400 + k) + 4) = -1
          rw [g7 _ htk]
          exact hk4
        · have hkeep : ∀ q, q < 5 * (8400 + c1) → 5 * (8400 + c0) ≤ q → ¬ q = 5 * (8400 + k) + 4 → ¬ q = 5 * (8400 + tl) + 4 → mA μ' 15 q = mA μ5 15 q := fun q h1 h0 h2 h3 => (heq q h1 h0 h2).trans (g7 q h3)
          refine hy (t :: b) p' N' (by rw [hst2, h2]; rfl) (by omega) c' μ' H' (by omega) (fun q hq hq0 hqt => ?_) ?_ h21
          · rw [hkeep q (by omega) hq0 (by omega) hqt]
            exact g5 q hq
          · have e : nf (mA μ' 15) 8400 tl 4 = nI k := by
              show mA μ' 15 (5 * (8400 + tl) + 4) = nI k
              rw [heq _ (by omega) (by omega) (by omega), mA_s, e22]
            rw [e]
            refine ⟨k, rfl, by omega, by omega, ?_, hB⟩
            exact hL (mA μ' 15) c c0 k t hcc0 (hP (mA μ5 15) (mA μ' 15) c k t hck (fun q q1 q2 => hkeep q (by omega) (by omega) (by omega) (by omega)) hT)
      refine ⟨fun c0 => ?_, fun c0 => ?_⟩
      · rcases hs with ⟨h1, h2⟩ | ⟨h1, h2⟩
        · exact main _ h2
        · exact absurd c0 h1
      · rcases hs with ⟨h1, h2⟩ | ⟨h1, h2⟩
        · exact absurd h1 c0
        · exact main _ h2
/-- a row of things in braces -/
theorem S_several {α : Type} {P : (Nat → Int32) → Nat → α → Nat → Prop} (hP : kep P) (hL : low P) {it : Nat → ps_N → ps_R α} {x1 : Int32} (hk : ksP ks) (hs : (x1 = 0 ∧ SubI (W_X6_member G ρ (d + 16) (-1)) ks T P it) ∨ (¬ x1 = 0 ∧ SubI (W_X6_editOf G ρ (d + 16)) ks T P it)) {Q : Int32 → mm_S → Prop} (H : CX ks T μ0 p0 c0 p N c μ)
    (hy : ∀ b p' N', ps_brace T it p N = ps_ok b p' N' → p < p' → ∀ c' μ', CX ks T μ0 p0 c0 p' N' c' μ' → c ≤ c' → isLk (mA μ' 15) 8400 c0 (P (mA μ' 15) c0) b c' (mI μ' 21) → Q 1 μ') (hn : StN ks μ0 c0 (ps_brace T it p N) Q) : W_X6_several G ρ (d + 17) x1 μ Q := by
  unfold ps_brace at hy hn
  refine W_X6_several_f (H.need (d := d + 12) hk (by decide) (fun h123 μ1 f1 hp1 H1 => y1 ?_) fun h123 μ1 f1 hF => z1 (hn 1 (lxa T p) N (by unfold ps_need; rw [if_neg h123]; rfl) (by decide) μ1 f1 hF))
  have hnd : ps_need T 123 p N = ps_ok () (lxe T p) N := by unfold ps_need; rw [if_pos h123]
  rw [hnd] at hy hn
  have hy2 : ∀ b p' N', ps_list T it 1001 (lxe T p) N = ps_ok b p' N' → p < p' → ∀ c' μ', CX ks T μ0 p0 c0 p' N' c' μ' → c ≤ c' → isLk (mA μ' 15) 8400 c0 (P (mA μ' 15) c0) b c' (mI μ' 21) → Q 1 μ' := hy
  have hn2 : StN ks μ0 c0 (ps_list T it 1001 (lxe T p) N) Q := hn
  refine B_X6_several_15_f (S_isSign H1.1 ?_)
  by_cases h125 : lxt T (lxe T p) = 200 + 125
  · rw [if_pos h125]
    refine y1 (H1.next hk (by rw [h125]; decide) fun μ3 f3 hg3 H3 μ4 e4 => ?_)
    refine hy2 [] (lxe T (lxe T p)) N ?_ (by omega) c μ4 (H3.setI e4 (hk 21 (by decide)) (by decide) (by decide)) (Nat.le_refl _) ?_
    · rw [ps_list, if_pos (show lxt T (lxe T p) = 325 from h125)]
    · rw [e4, mI_s]; rfl
  · rw [if_neg h125]
    refine z1 ?_
    have hst : ps_list T it 1001 (lxe T p) N = ps_b (it (lxe T p) N) fun a p' N' => ps_b (ps_list T it 1000 p' N') fun l p2 N2 => ps_ok (a :: l) p2 N2 := by
      rw [ps_list, if_neg (show ¬ lxt T (lxe T p) = 325 from h125)]
    have hcc0 : c0 ≤ c := H.2.2.2.1
    have main : ∀ (W : mm_S → (Int32 → mm_S → Prop) → Prop), SubI W ks T P it → W μ1 (fun v6 μ5 => (¬ v6 = 0 → B_X6_several_48 G ρ (d + 17) x1 (-1) (-1) μ5 Q) ∧ (v6 = 0 → Q 0 μ5)) := fun W hW => by
      refine hW μ1 (lxe T p) c (lxe T p) N c μ1 _ H1.at0 (fun t p1 N1 h1 hp2 c1 k μ5 H5 hck hkc e22 hT hk4 => y1 ?_) fun k q N' h1 h0 μ5 f5 hF => z1 (hn2 k q N' (by rw [hst, h1]; rfl) h0 μ5 (H1.fft f5) hF)
      rw [h1] at hst
      have hst2 : ps_list T it 1001 (lxe T p) N = ps_b (ps_list T it 1000 p1 N1) fun l p2 N2 => ps_ok (t :: l) p2 N2 := hst
      have h1000 := H5.p_le
      have hkk : k < 2 ^ 31 := by
        obtain ⟨-, -, -, -, a1, a2, a3⟩ := H5
        omega
      have hcc : c ≤ c1 := H5.2.2.2.1
      refine B_X6_several_48_f ⟨fun c1 => absurd rfl c1, fun _ => ?_⟩
      rw [e22]
      refine S_several_l hP hL hk hs (nI_m1 hkk) 1000 p1 N1 c1 k _ μ5 (H1.from_ H5) (by omega) rfl (by omega) hkc hk4 (fun b p' N' h2 hp3 c' μ' H' hcc2 heq hB h21 => ?_) fun k q N' h2 h0 μ' f' hF => hn2 k q N' (by rw [hst2, h2]; rfl) h0 μ' f' hF
      refine hy2 (t :: b) p' N' (by rw [hst2, h2]; rfl) (by omega) c' μ' H' (by omega) ?_
      rw [h21]
      refine ⟨k, rfl, by omega, by omega, ?_, hB⟩
      exact hL (mA μ' 15) c c0 k t hcc0 (hP (mA μ5 15) (mA μ' 15) c k t hck (fun q q1 q2 => heq q (by omega) (by omega) (by omega)) hT)
    refine ⟨fun c0 => ?_, fun c0 => ?_⟩
    · rcases hs with ⟨h1, h2⟩ | ⟨h1, h2⟩
      · exact main _ h2
      · exact absurd c0 h1
    · rcases hs with ⟨h1, h2⟩ | ⟨h1, h2⟩
      · exact absurd h1 c0
      · exact main _ h2
/-- under -/
theorem CX.under {Q : Int32 → mm_S → Prop} (H : CX ks T μ0 p0 c0 p N c μ) (hk : ksP ks) (h24 : 24 ∈ ks) (hy : ∀ ab p' N', ps_under T p N = ps_ok ab p' N' → p ≤ p' → ∀ μ', CX ks T μ0 p0 c0 p' N' c μ' → mI μ' 24 = oN ab → Q 1 μ') (hn : StN ks μ0 c0 (ps_under T p N) Q) : W_X6_underOne G ρ (d + 5) μ Q := by
  unfold ps_under at hy hn
  refine W_X6_underOne_f fun μ1 e1 => ?_
  have H1 := H.setI e1 h24 (by decide) (by decide)
  rw [H1.tk]
  refine ⟨fun c101 => ?_, fun n101 => ?_⟩
  · rw [if_pos c101] at hy hn
    refine H1.next hk (by rw [c101]; decide) fun μ2 f2 hg2 H2 => H2.named hk (fun n p1 N1 h1 hn9 hnN hp1 μ3 f3 e17 H3 => y1 ?_) fun k q N' h1 h0 μ' f hF => z1 (hn k q N' (by rw [h1]; rfl) h0 μ' f hF)
    intro μ5 e5
    rw [h1] at hy
    refine hy (some (nI n)) p1 N1 rfl (by omega) μ5 (H3.setI e5 h24 (by decide) (by decide)) ?_
    rw [e5, mI_s]
    exact e17
  · rw [if_neg n101] at hy
    exact hy none p N rfl (Nat.le_refl _) μ1 H1 (by rw [e1, mI_s]; rfl)
/-- a change -/
theorem S_ch207 {a : Chg} {o x2 : Int32} {pl : Nat} {Q : Int32 → mm_S → Prop} (H : CX ks T μ0 p0 c0 p N c μ) (hk : ksP ks) (hpl : pl ≤ p) (hc : c + p0 < p + c0) (hT : ∀ nd : Nat → Int32, nf nd 8400 c 0 = o → nf nd 8400 c 1 = x2 → nf nd 8400 c 2 = mI μ 24 → isCh nd 8400 c0 a c) (hY : ItY ks T μ0 p0 c0 pl (fun nd lo => isCh nd 8400 lo) (ps_end T a p N) Q) (hN : StN ks μ0 c0 (ps_end T a p N) Q) : B_X6_change_207 G ρ (d + 5) x2 o μ Q :=
  B_X6_change_207_f (S_end (P := fun nd lo => isCh nd 8400 lo) (a := a) H hk hpl hc (fun nd _ n0 n1 n2 _ => hT nd n0 n1 n2) hY hN)
theorem S_change (hk : ksP ks) (h23 : 23 ∈ ks) (h24 : 24 ∈ ks) (hd : 48 ≤ d) : SubI (W_X6_change G ρ (d + 18)) ks T (fun nd lo => isCh nd 8400 lo) (ps_change T) := fun μ0 p0 c0 p N c μ Q H hY hN => by
  have hcp0 : c + p0 ≤ p + c0 := H.2.2.2.2.2.1
  have hcc0 : c0 ≤ c := H.2.2.2.1
  unfold ps_change at hY hN
  have good : (lxt T p = 100 ∨ (116 ≤ lxt T p ∧ lxt T p ≤ 118) ∨ lxt T p = 121) → B_X6_change_34 G ρ (d + 18) (lxt T p) μ Q := fun hok => by
    rw [if_neg (not_not_intro hok)] at hY hN
    have hz : ¬ lxt T p = 0 := fun e => by rw [e] at hok; exact absurd hok (by decide)
    refine B_X6_change_34_f (H.next hk hz fun μ1 f1 hg1 H1 => H1.named hk (fun n p1 N1 h1 hn hnN hp1 μ2 f2 e17 H2 => y1 ?_) fun k q N' h1 h0 μ' f hF => z1 (hN k q N' (by rw [h1]; rfl) h0 μ' f hF))
    rw [h1] at hY hN
    have hlt : c + p0 < p1 + c0 := by omega
    refine ⟨fun n100 => ?_, fun c100 => ?_⟩
    · have hN2 : StN ks μ0 c0 (if lxt T p = 116 then ps_b (ps_brace T (ps_edit T) p1 N1) fun es p2 N2 => ps_ok (.inr (.inl (nI n, es))) p2 N2
        else if lxt T p = 121 then ps_b (ps_xp T p1 N1) fun e p2 N2 => ps_end T (.inr (.inr (.inr (.inr (nI n, e))))) p2 N2
        else if lxt T p = 118 then ps_b (ps_under T p1 N1) fun ab p2 N2 => ps_end T (.inr (.inr (.inr (.inl (nI n, ab))))) p2 N2
        else ps_end T (.inr (.inr (.inl (nI n)))) p1 N1 : ps_R Chg) Q := by
        have h9 := hN
        unfold ps_ok ps_b at h9
        dsimp only at h9
        rw [if_neg n100] at h9
        exact h9
      have hY2 : ItY ks T μ0 p0 c0 p (fun nd lo => isCh nd 8400 lo) (if lxt T p = 116 then ps_b (ps_brace T (ps_edit T) p1 N1) fun es p2 N2 => ps_ok (.inr (.inl (nI n, es))) p2 N2
        else if lxt T p = 121 then ps_b (ps_xp T p1 N1) fun e p2 N2 => ps_end T (.inr (.inr (.inr (.inr (nI n, e))))) p2 N2
        else if lxt T p = 118 then ps_b (ps_under T p1 N1) fun ab p2 N2 => ps_end T (.inr (.inr (.inr (.inl (nI n, ab))))) p2 N2
        else ps_end T (.inr (.inr (.inl (nI n)))) p1 N1) Q := by
        have h9 := hY
        unfold ps_ok ps_b at h9
        dsimp only at h9
        rw [if_neg n100] at h9
        exact h9
      refine ⟨fun n116 => ?_, fun c116 => ?_⟩
      · rw [if_neg n116] at hY2 hN2
        refine ⟨fun n121 => ?_, fun c121 => ?_⟩
        · rw [if_neg n121] at hY2 hN2
          refine ⟨fun n118 => ?_, fun c118 => ?_⟩
          · rw [if_neg n118] at hY2 hN2
            have hg : ∀ o : Int32, o = 42 → B_X6_change_207 G ρ (d + 18) (mI μ2 17) o μ2 Q := fun o ho => by
              subst ho
              exact S_ch207 (d := d + 13) (a := .inr (.inr (.inl (nI n)))) H2 hk (pl := p) (by omega) hlt (fun nd n0 n1 n2 => ⟨n0, n1.trans e17⟩) hY2 hN2
            refine ⟨fun n117 => ?_, fun c117 => hg 42 rfl⟩
            exfalso
            rcases hok with h | ⟨h, h'⟩ | h
            · exact n100 h
            · have h1' : ¬ lxt T p < 116 := Int32.not_lt.mpr h
              have h2' : ¬ 118 < lxt T p := Int32.not_lt.mpr h'
              rw [Int32.lt_iff_toInt_lt] at h1' h2'
              have e116 : (116 : Int32).toInt = 116 := by decide
              have e118 : (118 : Int32).toInt = 118 := by decide
              have m : (lxt T p).toInt = 116 ∨ (lxt T p).toInt = 117 ∨ (lxt T p).toInt = 118 := by omega
              rcases m with m | m | m
              · exact n116 (Int32.toInt_inj.mp (by rw [m]; decide))
              · exact n117 (Int32.toInt_inj.mp (by rw [m]; decide))
              · exact n118 (Int32.toInt_inj.mp (by rw [m]; decide))
            · exact n121 h
          · rw [if_pos c118] at hY2 hN2
            refine H2.under (d := d + 12) hk h24 (fun ab p2 N2 h2 hp2 μ4 H4 e24 => y1 ?_) fun k q N' h2 h0 μ' f hF => z1 (hN2 k q N' (by rw [h2]; rfl) h0 μ' f hF)
            rw [h2] at hY2 hN2
            refine ⟨fun _ => ?_, fun c117 => absurd (c118.symm.trans c117) (by decide)⟩
            exact S_ch207 (d := d + 13) (a := .inr (.inr (.inr (.inl (nI n, ab))))) H4 hk (pl := p) (by omega) (by omega) (fun nd n0 n1 n2 => ⟨n0, n1.trans e17, n2.trans e24⟩) hY2 hN2
        · rw [if_pos c121] at hY2 hN2
          intro μ6 e6
          have H6 := H2.setI e6 (hk 18 (by decide)) (by decide) (by decide)
          refine H6.sub hk (S_expr (r := 12) (d := d + 9) (by omega) (by omega)) (by rw [e6, mI_s]; rfl) (fun e p2 N2 h2 hp2 c2 k2 μ7 f7 g7 m18 hcc hcp hkc e19 hE H7 => y1 ?_) fun k q N' h2 h0 μ' f hF => z1 (hN2 k q N' (by rw [show ps_xp T p1 N1 = _ from h2]; rfl) h0 μ' f hF)
          have h2' : ps_xp T p1 N1 = ps_ok e p2 N2 := h2
          rw [h2'] at hY2 hN2
          refine S_end (d := d + 13) (P := fun nd lo => isCh nd 8400 lo) (a := .inr (.inr (.inr (.inr (nI n, e))))) H7 hk (pl := p) (by omega) (by omega) (fun nd hnd n0 n1 n2 n3 => ?_) hY2 hN2
          exact ⟨n0, n1.trans e17, k2, hkc, n2.trans e19, (isE.mono (m := c2) (fun q _ hq => hnd q hq) hkc hE).lo hcc0⟩
      · rw [if_pos c116] at hY2 hN2
        refine S_several (P := fun nd lo => isEd nd 8400 lo) isEd_kep isEd_low (it := ps_edit T) (d := d) hk (Or.inr ⟨by decide, S_edit hk h23 h24 hd⟩) H2.at0 (fun es p2 N2 h2 hp2 c2 μ3 H3 hcc hL => y1 ?_) fun k q N' h2 h0 μ' f hF => z1 (hN2 k q N' (by rw [h2]; rfl) h0 μ' (H2.fft f) hF)
        rw [h2] at hY2
        have hc2 : c2 + p1 ≤ p2 + c := H3.2.2.2.2.2.1
        refine (H2.from_ H3).node hk (by omega) fun μ4 f4 g4 n0 n1 n2 n3 n4 H4 μ5 e5 => ?_
        have f5 : fr [22] μ4 μ5 := by rw [e5]; exact fr.refl.sI (by decide)
        have e15 : mA μ5 15 = mA μ4 15 := f5.eA (by decide)
        refine hY2 (.inr (.inl (nI n, es))) p2 N2 rfl (by omega) (c2 + 1) c2 μ5 (H4.setI e5 (hk 22 (by decide)) (by decide) (by decide)) (by omega) (by omega) (by rw [e5, mI_s]) ?_ (by rw [e15]; exact n4)
        rw [e15]
        refine ⟨n0, n1.trans e17, ?_⟩
        rw [n3]
        exact isLk.low (P := fun nd lo => isEd nd 8400 lo) isEd_low hcc0 (isLk.mono (P := fun nd lo => isEd nd 8400 lo) isEd_kep (fun q _ hq => g4 q hq) hL)
    · have hN2 : StN ks μ0 c0 (ps_b (ps_under T p1 N1) fun ab p2 N2 => ps_b (ps_brace T (ps_mem T noC) p2 N2) fun ms p3 N3 => ps_ok (.inl (nI n, ab, ms)) p3 N3 : ps_R Chg) Q := by
        have h9 := hN
        unfold ps_ok ps_b at h9
        dsimp only at h9
        rw [if_pos c100] at h9
        exact h9
      have hY2 : ItY ks T μ0 p0 c0 p (fun nd lo => isCh nd 8400 lo) (ps_b (ps_under T p1 N1) fun ab p2 N2 => ps_b (ps_brace T (ps_mem T noC) p2 N2) fun ms p3 N3 => ps_ok (.inl (nI n, ab, ms)) p3 N3) Q := by
        have h9 := hY
        unfold ps_ok ps_b at h9
        dsimp only at h9
        rw [if_pos c100] at h9
        exact h9
      refine H2.under (d := d + 12) hk h24 (fun ab p2 N2 h2 hp2 μ3 H3 e24 => y1 ?_) fun k q N' h2 h0 μ' f hF => z1 (hN2 k q N' (by rw [h2]; rfl) h0 μ' f hF)
      rw [h2] at hY2 hN2
      have hN3 : StN ks μ0 c0 (ps_b (ps_brace T (ps_mem T noC) p2 N2) fun ms p3 N3 => ps_ok (.inl (nI n, ab, ms)) p3 N3 : ps_R Chg) Q := hN2
      have hY3 : ItY ks T μ0 p0 c0 p (fun nd lo => isCh nd 8400 lo) (ps_b (ps_brace T (ps_mem T noC) p2 N2) fun ms p3 N3 => ps_ok (.inl (nI n, ab, ms)) p3 N3) Q := hY2
      refine S_several (P := fun nd lo => isMn nd 8400 lo) isMn_kep isMn_low (it := ps_mem T noC) (d := d) hk (Or.inl ⟨rfl, S_memI (d := d + 1) hk h23 h24 (by omega)⟩) H3.at0 (fun ms p3 N3 h3 hp3 c3 μ4 H4 hcc hL => y1 ?_) fun k q N' h3 h0 μ' f hF => z1 (hN3 k q N' (by rw [h3]; rfl) h0 μ' (H3.fft f) hF)
      rw [h3] at hY3
      have hc2 : c3 + p2 ≤ p3 + c := H4.2.2.2.2.2.1
      rw [e17, e24]
      refine (H3.from_ H4).node hk (by omega) fun μ5 f5 g5 n0 n1 n2 n3 n4 H5 μ6 e6 => ?_
      have f6 : fr [22] μ5 μ6 := by rw [e6]; exact fr.refl.sI (by decide)
      have e15 : mA μ6 15 = mA μ5 15 := f6.eA (by decide)
      refine hY3 (.inl (nI n, ab, ms)) p3 N3 rfl (by omega) (c3 + 1) c3 μ6 (H5.setI e6 (hk 22 (by decide)) (by decide) (by decide)) (by omega) (by omega) (by rw [e6, mI_s]) ?_ (by rw [e15]; exact n4)
      rw [e15]
      refine ⟨n0, n1, n2, ?_⟩
      rw [n3]
      exact isLk.low (P := fun nd lo => isMn nd 8400 lo) isMn_low hcc0 (isLk.mono (P := fun nd lo => isMn nd 8400 lo) isMn_kep (fun q _ hq => g5 q hq) hL)
  refine W_X6_change_f ?_
  rw [H.tk]
  refine ⟨fun c100 => good (Or.inl c100), fun n100 => S_isIn ⟨fun hin => y1 (good (Or.inr (Or.inl hin))), fun hin => z1 ⟨fun c121 => good (Or.inr (Or.inr c121)), fun n121 => ?_⟩⟩⟩
  rw [if_pos (show ¬ (lxt T p = 100 ∨ (116 ≤ lxt T p ∧ lxt T p ≤ 118) ∨ lxt T p = 121) from fun h => h.elim n100 fun h => h.elim hin n121)] at hN
  exact H.bad hk fun μ' f hF => ⟨rfl, hN 1 _ N rfl (by decide) μ' f hF⟩
end
