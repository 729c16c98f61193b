set_option maxRecDepth 100000
/-! ===== the plain parser: what a text is (ps_); trees are Jvm.Term (NOTES, F2) ===== -/
/-- names: how many, and their letters -/
abbrev ps_N : Type := Nat × (Nat → Int64)
/-- a fault (kind, place), or a thing and the place behind it; and the names then -/
abbrev ps_R (α : Type) : Type := ((Int32 × Nat) ⊕ (α × Nat)) × ps_N
def ps_b {α β : Type} (r : ps_R α) (k : α → Nat → ps_N → ps_R β) : ps_R β := match r with
  | (.inl e, N) => (.inl e, N)
  | (.inr (a, p), N) => k a p N
def ps_f {α : Type} (kind : Int32) (place : Nat) (N : ps_N) : ps_R α := (.inl (kind, place), N)
def ps_ok {α : Type} (a : α) (p : Nat) (N : ps_N) : ps_R α := (.inr (a, p), N)
/-- the number of a name -/
def ps_fn (N : ps_N) (c : Int64) : Nat → Nat → Nat
  | 0, i => i
  | f + 1, i => if N.2 i = c then i else ps_fn N c f (i + 1)
def ps_name (T : Nat → Int32) (p : Nat) (N : ps_N) : ps_R Nat :=
  if lxt T p = 2 then
    let k := ps_fn N (lxn T p) N.1 0
    if k < N.1 then ps_ok k (lxe T p) N
    else if N.1 = 40 then ps_f 3 (lxa T p) N
    else ps_ok N.1 (lxe T p) (N.1 + 1, vp_updL N.2 N.1 (lxn T p))
  else ps_f 1 (lxa T p) N
def ps_need (T : Nat → Int32) (c : Int32) (p : Nat) (N : ps_N) : ps_R Unit := if lxt T p = 200 + c then ps_ok () (lxe T p) N else ps_f 1 (lxa T p) N
/-- operators between things of one kind, from the left -/
def ps_loop (T : Nat → Int32) (op : Int32 → Option (Term → Term → Term)) (sub : Nat → ps_N → ps_R Term) : Nat → Term → Nat → ps_N → ps_R Term
  | 0, _, p, N => ps_f 0 p N
  | g + 1, a, p, N => match op (lxt T p) with
    | none => ps_ok a p N
    | some z2 => ps_b (sub (lxe T p) N) fun b p' N' => ps_loop T op sub g (z2 a b) p' N'
def ps_mul (t : Int32) : Option (Term → Term → Term) := if t = 242 then some Term.mul else if t = 247 then some Term.div else none
def ps_add (t : Int32) : Option (Term → Term → Term) := if t = 243 then some Term.add else if t = 245 then some Term.sub else none
def ps_prod (T : Nat → Int32) (un : Nat → ps_N → ps_R Term) (p : Nat) (N : ps_N) : ps_R Term := ps_b (un p N) fun a p' N' => ps_loop T ps_mul un 1001 a p' N'
def ps_sum (T : Nat → Int32) (un : Nat → ps_N → ps_R Term) (p : Nat) (N : ps_N) : ps_R Term := ps_b (ps_prod T un p N) fun a p' N' => ps_loop T ps_add (ps_prod T un) 1001 a p' N'
def ps_exp (T : Nat → Int32) (un : Nat → ps_N → ps_R Term) (p : Nat) (N : ps_N) : ps_R Term := ps_b (ps_sum T un p N) fun a p' N' =>
  if lxt T p' = 260 then ps_b (ps_sum T un (lxe T p') N') fun b p2 N2 => ps_ok (Term.elem a b) p2 N2
  else if lxt T p' = 201 then ps_b (ps_sum T un (lxe T p') N') fun b p2 N2 => ps_ok (Term.rem a b) p2 N2
  else ps_ok a p' N'
/-- a unit, with r more to be opened -/
def ps_unit (T : Nat → Int32) : Nat → Nat → ps_N → ps_R Term
  | r, p, N =>
    if lxt T p = 3 then ps_ok (Term.int (lxv T p)) (lxe T p) N
    else if lxt T p = 2 then ps_b (ps_name T p N) fun k p' N' => ps_ok (Term.index k) p' N'
    else if lxt T p = 114 then ps_ok Term.null (lxe T p) N
    else if lxt T p = 115 then ps_ok Term.result (lxe T p) N
    else if lxt T p = 245 then (match r with
      | 0 => ps_f 3 (lxa T p) N
      | r + 1 => ps_b (ps_unit T r (lxe T p) N) fun a p' N' => ps_ok (Term.old a) p' N')
    else if lxt T p = 240 then (match r with
      | 0 => ps_f 3 (lxa T p) N
      | r + 1 => ps_b (ps_exp T (ps_unit T r) (lxe T p) N) fun a p' N' => ps_b (ps_need T 41 p' N') fun _ p2 N2 => ps_ok a p2 N2)
    else ps_f 1 (lxa T p) N
/-! nodes that are a tree -/
def nf (nd : Nat → Int32) (B k f : Nat) : Int32 := nd (5 * (B + k) + f)
def isE (nd : Nat → Int32) (B lo : Nat) : Term → Nat → Prop
  | .int v, k => lo ≤ k ∧ nf nd B k 0 = 1 ∧ nf nd B k 1 = v
  | .index n, k => lo ≤ k ∧ nf nd B k 0 = 2 ∧ nf nd B k 1 = nI n ∧ n < 40
  | .null, k => lo ≤ k ∧ nf nd B k 0 = 3
  | .result, k => lo ≤ k ∧ nf nd B k 0 = 4
  | .old a, k => lo ≤ k ∧ nf nd B k 0 = 5 ∧ ∃ i, i < k ∧ nf nd B k 1 = nI i ∧ isE nd B lo a i
  | .add a b, k => lo ≤ k ∧ nf nd B k 0 = 10 ∧ ∃ i j, i < k ∧ j < k ∧ nf nd B k 1 = nI i ∧ nf nd B k 2 = nI j ∧ isE nd B lo a i ∧ isE nd B lo b j
  | .sub a b, k => lo ≤ k ∧ nf nd B k 0 = 11 ∧ ∃ i j, i < k ∧ j < k ∧ nf nd B k 1 = nI i ∧ nf nd B k 2 = nI j ∧ isE nd B lo a i ∧ isE nd B lo b j
  | .mul a b, k => lo ≤ k ∧ nf nd B k 0 = 12 ∧ ∃ i j, i < k ∧ j < k ∧ nf nd B k 1 = nI i ∧ nf nd B k 2 = nI j ∧ isE nd B lo a i ∧ isE nd B lo b j
  | .div a b, k => lo ≤ k ∧ nf nd B k 0 = 13 ∧ ∃ i j, i < k ∧ j < k ∧ nf nd B k 1 = nI i ∧ nf nd B k 2 = nI j ∧ isE nd B lo a i ∧ isE nd B lo b j
  | .elem a b, k => lo ≤ k ∧ nf nd B k 0 = 14 ∧ ∃ i j, i < k ∧ j < k ∧ nf nd B k 1 = nI i ∧ nf nd B k 2 = nI j ∧ isE nd B lo a i ∧ isE nd B lo b j
  | .rem a b, k => lo ≤ k ∧ nf nd B k 0 = 15 ∧ ∃ i j, i < k ∧ j < k ∧ nf nd B k 1 = nI i ∧ nf nd B k 2 = nI j ∧ isE nd B lo a i ∧ isE nd B lo b j
  | _, _ => False
theorem isE.mono {nd nd' : Nat → Int32} {B lo m : Nat} (h : ∀ q, 5 * (B + lo) ≤ q → q < 5 * (B + m) → nd' q = nd q) : ∀ {t : Term} {k : Nat}, k < m → isE nd B lo t k → isE nd' B lo t k := by
  have hn : ∀ k f, lo ≤ k → k < m → f < 5 → nf nd' B k f = nf nd B k f := fun k f hl hk hf => h _ (by omega) (by omega)
  intro t
  induction t with
  | int v => intro k hk hE; unfold isE at hE ⊢; obtain ⟨hl, hE⟩ := hE; rw [hn k 0 hl hk (by decide), hn k 1 hl hk (by decide)]; exact ⟨hl, hE⟩
  | index n => intro k hk hE; unfold isE at hE ⊢; obtain ⟨hl, hE⟩ := hE; rw [hn k 0 hl hk (by decide), hn k 1 hl hk (by decide)]; exact ⟨hl, hE⟩
  | null => intro k hk hE; unfold isE at hE ⊢; obtain ⟨hl, hE⟩ := hE; rw [hn k 0 hl hk (by decide)]; exact ⟨hl, hE⟩
  | result => intro k hk hE; unfold isE at hE ⊢; obtain ⟨hl, hE⟩ := hE; rw [hn k 0 hl hk (by decide)]; exact ⟨hl, hE⟩
  | old a ih =>
    intro k hk hE
    unfold isE at hE ⊢
    obtain ⟨hl, h0, i, hi, h1, h2⟩ := hE
    exact ⟨hl, by rw [hn k 0 hl hk (by decide)]; exact h0, i, hi, by rw [hn k 1 hl hk (by decide)]; exact h1, ih (by omega) h2⟩
  | add a b iha ihb | sub a b iha ihb | mul a b iha ihb | div a b iha ihb | elem a b iha ihb | rem a b iha ihb =>
    intro k hk hE
    unfold isE at hE ⊢
    obtain ⟨hl, h0, i, j, hi, hj, h1, h2, h3, h4⟩ := hE
    exact ⟨hl, by rw [hn k 0 hl hk (by decide)]; exact h0, i, j, hi, hj, by rw [hn k 1 hl hk (by decide)]; exact h1, by rw [hn k 2 hl hk (by decide)]; exact h2, iha (by omega) h3, ihb (by omega) h4⟩
  | _ => intro k hk hE; exact hE.elim
theorem isE.lo {nd : Nat → Int32} {B lo l2 : Nat} (hl2 : l2 ≤ lo) : ∀ {t : Term} {k : Nat}, isE nd B lo t k → isE nd B l2 t k := by
  intro t
  induction t with
  | int v | index n | null | result => intro k hE; unfold isE at hE ⊢; exact ⟨by omega, hE.2⟩
  | old a ih =>
    intro k hE
    unfold isE at hE ⊢
    obtain ⟨hl, h0, i, hi, h1, h2⟩ := hE
    exact ⟨by omega, h0, i, hi, h1, ih h2⟩
  | add a b iha ihb | sub a b iha ihb | mul a b iha ihb | div a b iha ihb | elem a b iha ihb | rem a b iha ihb =>
    intro k hE
    unfold isE at hE ⊢
    obtain ⟨hl, h0, i, j, hi, hj, h1, h2, h3, h4⟩ := hE
    exact ⟨by omega, h0, i, j, hi, hj, h1, h2, iha h3, ihb h4⟩
  | _ => intro k hE; exact hE.elim
