set_option maxRecDepth 100000
/-! ===== what a run does (pure) ===== -/
/-- the value of a static -/
def gtS (L : List Kd) (u : Nat) (n : Int32) : Int32 := match L[u]? with
  | none => 0
  | some ku => match ixS ku n with
    | none => 0
    | some i => match (kS ku)[i]? with
      | none => 0
      | some s => s.2
/-- a static is set -/
def stS (L : List Kd) (u : Nat) (n v : Int32) : List Kd := match L[u]? with
  | none => L
  | some ku => match ixS ku n with
    | none => L
    | some i => L.set u (ku.1, kF ku, (kS ku).set i (n, v), kX ku)
/-- the kind up that has a field; that has a static -/
abbrev fUp (L : List Kd) (k : Nat) (n : Int32) : Option Nat := upK L (fun kd => (ixF kd n).isSome) 12 (some k)
abbrev sUp (L : List Kd) (k : Nat) (n : Int32) : Option Nat := upK L (fun kd => (ixS kd n).isSome) 12 (some k)
/-- while it runs: fuel, kinds, values, lost ones, what ran -/
abbrev RSt : Type := Nat × List Kd × (Nat → Int32) × (Nat → Int32) × List (Int32 × Int32 × Int32 × Int32)
/-- creatures: how many, which live, their kinds, what they lost; whether it is a beat -/
abbrev Ctx : Type := Nat × (Nat → Bool) × (Nat → Nat) × (Nat → Int32) × Bool
def ixV (c : Nat) (n : Int32) : Nat := 40 * c + n.toNatClampNeg
/-- what a creature has under a name -/
def rdv (C : Ctx) (s : RSt) (c : Nat) (n : Int32) : Option Int32 := match fUp s.2.1 (C.2.2.1 c) n with
  | some _ => some (s.2.2.1 (ixV c n))
  | none => match sUp s.2.1 (C.2.2.1 c) n with
    | some u => some (gtS s.2.1 u n)
    | none => if C.2.2.2.1 (ixV c n) = 0 then none else some (s.2.2.2.1 (ixV c n))
def wrv (C : Ctx) (s : RSt) (c : Nat) (n v : Int32) : Option RSt := match fUp s.2.1 (C.2.2.1 c) n with
  | some _ => some (s.1, s.2.1, upd s.2.2.1 (ixV c n) v, s.2.2.2)
  | none => match sUp s.2.1 (C.2.2.1 c) n with
    | some u => some (s.1, stS s.2.1 u n v, s.2.2)
    | none => if C.2.2.2.1 (ixV c n) = 0 then none else some (s.1, s.2.1, s.2.2.1, upd s.2.2.2.1 (ixV c n) v, s.2.2.2.2)
def ev2 (a b : Int32 ⊕ Int32) (f : Int32 → Int32 → Int32 ⊕ Int32) : Int32 ⊕ Int32 := match a with
  | .inl e => .inl e
  | .inr x => match b with
    | .inl e => .inl e
    | .inr y => f x y
/-- a number worked out: what fails, or the number -/
def ev (rd : Int32 → Option Int32) (v last : Int32) : Term → Int32 ⊕ Int32
  | .int x => .inr x
  | .index m => match rd (nI m) with
    | none => .inl 1001
    | some x => .inr x
  | .null => .inr v
  | .result => .inr last
  | .old a => match ev rd v last a with
    | .inl e => .inl e
    | .inr x => .inr (-x)
  | .add a b => ev2 (ev rd v last a) (ev rd v last b) fun x y => .inr (x + y)
  | .sub a b => ev2 (ev rd v last a) (ev rd v last b) fun x y => .inr (x - y)
  | .mul a b => ev2 (ev rd v last a) (ev rd v last b) fun x y => .inr (x * y)
  | .div a b => ev2 (ev rd v last a) (ev rd v last b) fun x y => if y = 0 then .inl 1002 else .inr (x / y)
  | .elem a b => ev2 (ev rd v last a) (ev rd v last b) fun x y => .inr (if x < y then 1 else 0)
  | .rem a b => ev2 (ev rd v last a) (ev rd v last b) fun x y => .inr (if x = y then 1 else 0)
  | _ => .inl 0
/-- the acts of a name from a kind up: block, kind, generation -/
def actK (kd : Kd) (n : Int32) : List (Term × Int32 × Int32) := match ixA kd n with
  | none => []
  | some i => match (kX kd)[i]? with
    | none => []
    | some x => [(x.2, kN kd, kG kd)]
def acts (L : List Kd) (n : Int32) : Nat → Option Nat → List (Term × Int32 × Int32)
  | _, none => []
  | 0, some _ => []
  | f + 1, some k => match L[k]? with
    | none => []
    | some kd => actK kd n ++ acts L n f (kA kd)
/-- an act that runs is noted -/
def noteR (C : Ctx) (s : RSt) (c : Nat) (n : Int32) (t : Term × Int32 × Int32) : RSt := if C.2.2.2.2 = true ∧ s.2.2.2.2.length < 50 then (s.1, s.2.1, s.2.2.1, s.2.2.2.1, s.2.2.2.2 ++ [(nI c, n, t.2.1, t.2.2)]) else s
/-- how it went (0 on; 1 ended, with what it gave; 2 failed, with what; 3 spent; 4 it rests, and what is left), the last one given, what is then -/
abbrev RO : Type := (Nat × Int32 × Term) × Int32 × RSt
/-- behind a call -/
def goB (last : Int32) (k : Int32 → RSt → RO) (r : RO) : RO := match r with
  | ((0, _, _), _, s) => k 0 s
  | ((1, x, _), _, s) => k x s
  | (q, _, s) => (q, last, s)
/-- behind an if -/
def goI (k : Int32 → RSt → RO) (r : RO) : RO := match r with
  | ((0, _, _), last, s) => k last s
  | r => r
def liv (C : Ctx) (x : Int32) : Option Nat := if 0 ≤ x ∧ x < nI C.1 then (if C.2.1 x.toNatClampNeg = true then some x.toNatClampNeg else none) else none
/-- statements of an open body of the creature c, the act n; lg: it may rest; d: how deep; ab: the acts above -/
def go (C : Ctx) : Nat → Bool → Nat → Nat → Int32 → List (Term × Int32 × Int32) → Int32 → Int32 → Term → RSt → RO
  | _, _, _, _, _, _, _, last, .thrown, s => ((0, 0, .thrown), last, s)
  | 0, _, _, _, _, _, _, last, _, s => ((3, 0, .thrown), last, s)
  | g + 1, lg, d, c, n, ab, v, last, .add st b, s =>
    if s.1 = 0 then ((3, 0, .thrown), last, s) else
    let s1 : RSt := (s.1 - 1, s.2)
    let call := fun (c' : Nat) (n' : Int32) (v' : Int32) (l : List (Term × Int32 × Int32)) => match l with
      | [] => (((2, 1004, .thrown), last, s1) : RO)
      | t :: ab' => if d = 20 then ((2, 1005, .thrown), last, s1) else goB last (fun x s' => go C g lg d c n ab v x b s') (go C g false (d + 1) c' n' ab' v' 0 t.1 (noteR C s1 c' n' t))
    match st with
    | .elem (.index m) e => (match ev (rdv C s1 c) v last e with
      | .inl q => ((2, q, .thrown), last, s1)
      | .inr x => match wrv C s1 c (nI m) x with
        | none => ((2, 1001, .thrown), last, s1)
        | some s2 => go C g lg d c n ab v last b s2)
    | .length e => (match ev (rdv C s1 c) v last e with
      | .inl q => ((2, q, .thrown), last, s1)
      | .inr x => ((1, x, .thrown), last, s1))
    | .sum e => (match ev (rdv C s1 c) v last e with
      | .inl q => ((2, q, .thrown), last, s1)
      | .inr x => ((2, x, .thrown), last, s1))
    | .null => (match ab with
      | [] => go C g lg d c n ab v 0 b s1
      | _ :: _ => call c n v ab)
    | .arg a => call c (nI a) 0 (acts s1.2.1 (nI a) 12 (some (C.2.2.1 c)))
    | .mul (.index l) (.index a) => (match rdv C s1 c (nI l) with
      | none => ((2, 1001, .thrown), last, s1)
      | some x => match liv C x with
        | none => ((2, 1003, .thrown), last, s1)
        | some c' => call c' (nI a) 0 (acts s1.2.1 (nI a) 12 (some (C.2.2.1 c'))))
    | .result => if lg = true then ((4, 0, b), last, s1) else go C g lg d c n ab v last b s1
    | .sub e (.sub y z) => (match ev (rdv C s1 c) v last e with
      | .inl q => ((2, q, .thrown), last, s1)
      | .inr x => goI (fun l2 s2 => go C g lg d c n ab v l2 b s2) (go C g false d c n ab v last (if x = 0 then z else y) s1))
    | _ => ((2, 0, .thrown), last, s1)
  | _ + 1, _, _, _, _, _, _, last, _, s => ((2, 0, .thrown), last, s)
/-! statics in a row -/
def fxv (kd : Kd) : List (Int32 × Int32 × Int32) := (kS kd).map fun s => (kN kd, s.1, s.2)
def fxl (L : List Kd) : List (Int32 × Int32 × Int32) := L.flatMap fxv
theorem nfx_fxl {L : List Kd} : nfx [] L = fxl L := rfl
/-- the same kinds but for the values of statics -/
def eqS (L L' : List Kd) : Prop := L.length = L'.length ∧ ∀ (k : Nat) (kd kd' : Kd), L[k]? = some kd → L'[k]? = some kd' → kd.1 = kd'.1 ∧ kF kd = kF kd' ∧ (kS kd).map (·.1) = (kS kd').map (·.1) ∧ kX kd = kX kd'
theorem eqS.refl {L : List Kd} : eqS L L := ⟨rfl, fun k kd kd' h1 h2 => by rw [h1] at h2; cases h2; exact ⟨rfl, rfl, rfl, rfl⟩⟩
theorem eqS.symm {L L' : List Kd} (h : eqS L L') : eqS L' L := ⟨h.1.symm, fun k kd kd' h1 h2 => by
  obtain ⟨a, b, c, d⟩ := h.2 k kd' kd h2 h1
  exact ⟨a.symm, b.symm, c.symm, d.symm⟩⟩
theorem eqS.trans {L L1 L2 : List Kd} (h1 : eqS L L1) (h2 : eqS L1 L2) : eqS L L2 := ⟨h1.1.trans h2.1, fun k kd kd' e1 e2 => by
  have hk : k < L1.length := by rw [← h1.1]; exact get_lt e1
  obtain ⟨a, b, c, d⟩ := h1.2 k kd _ e1 (List.getElem?_eq_getElem hk)
  obtain ⟨a', b', c', d'⟩ := h2.2 k _ kd' (List.getElem?_eq_getElem hk) e2
  exact ⟨a.trans a', b.trans b', c.trans c', d.trans d'⟩⟩
theorem ixf_map {α β : Type} {key : α → Int32} {key' : β → Int32} {n : Int32} : ∀ {l : List α} {l' : List β}, l.map key = l'.map key' → ixf key n l = ixf key' n l'
  | [], [], _ => rfl
  | [], _ :: _, h => by cases h
  | _ :: _, [], h => by cases h
  | a :: l, b :: l', h => by
    rw [List.map_cons, List.map_cons] at h
    injection h with h1 h2
    unfold ixf
    rw [h1, ixf_map h2]
theorem eqS.ix {L L' : List Kd} (h : eqS L L') {k : Nat} {kd kd' : Kd} (h1 : L[k]? = some kd) (h2 : L'[k]? = some kd') (n : Int32) : ixF kd n = ixF kd' n ∧ ixS kd n = ixS kd' n ∧ ixA kd n = ixA kd' n ∧ hasO n kd = hasO n kd' ∧ kA kd = kA kd' ∧ kN kd = kN kd' := by
  obtain ⟨a, b, c, d⟩ := h.2 k kd kd' h1 h2
  have hS : ixS kd n = ixS kd' n := ixf_map c
  have hF : ixF kd n = ixF kd' n := by rw [ixF, ixF, b]
  refine ⟨hF, hS, by rw [ixA, ixA, d], by unfold hasO; rw [hF, hS], by rw [kA, kA, a], by rw [kN, kN, a]⟩
theorem eqS.upE {L L' : List Kd} (h : eqS L L') {q : Kd → Bool} (hq : ∀ (k : Nat) (kd kd' : Kd), L[k]? = some kd → L'[k]? = some kd' → q kd = q kd') : ∀ (f : Nat) (o : Option Nat), upK L q f o = upK L' q f o
  | f, none => by rw [upK_none, upK_none]
  | 0, some _ => rfl
  | f + 1, some k => by
    cases hk : L[k]? with
    | none =>
      have hk' : L'[k]? = none := by
        rw [List.getElem?_eq_none_iff] at hk ⊢
        have := h.1
        omega
      show (match L[k]? with | none => none | some kd => if q kd = true then some k else upK L q f (kA kd)) = (match L'[k]? with | none => none | some kd => if q kd = true then some k else upK L' q f (kA kd))
      rw [hk, hk']
    | some kd =>
      have hl := get_lt hk
      have hk' : L'[k]? = some (L'[k]'(by rw [← h.1]; exact hl)) := List.getElem?_eq_getElem _
      rw [upK_some hk, upK_some hk', hq k kd _ hk hk', (h.ix hk hk' 0).2.2.2.2.1, eqS.upE h hq f]
theorem eqS.plE {L L' : List Kd} (h : eqS L L') : ∀ (f : Nat) (o : Option Nat), plc L f o = plc L' f o
  | f, none => by rw [plc_none, plc_none]
  | 0, some _ => rfl
  | f + 1, some k => by
    cases hk : L[k]? with
    | none =>
      have hk' : L'[k]? = none := by
        rw [List.getElem?_eq_none_iff] at hk ⊢
        have := h.1
        omega
      show (match L[k]? with | none => [] | some kd => plc L f (kA kd) ++ (kF kd).map fun x => (k, x)) = (match L'[k]? with | none => [] | some kd => plc L' f (kA kd) ++ (kF kd).map fun x => (k, x))
      rw [hk, hk']
    | some kd =>
      have hl := get_lt hk
      have hk' : L'[k]? = some (L'[k]'(by rw [← h.1]; exact hl)) := List.getElem?_eq_getElem _
      rw [plc_some hk, plc_some hk', (h.ix hk hk' 0).2.2.2.2.1, eqS.plE h f, (h.2 k kd _ hk hk').2.1]
theorem eqS.aE {L L' : List Kd} (h : eqS L L') : ∀ (f : Nat) (o : Option Nat), ac L f o → ac L' f o
  | f, none, _ => by cases f <;> exact trivial
  | 0, some _, h9 => h9.elim
  | f + 1, some k, h9 => by
    obtain ⟨kd, hk, h2⟩ := ac_some h9
    have hl := get_lt hk
    have hk' : L'[k]? = some (L'[k]'(by rw [← h.1]; exact hl)) := List.getElem?_eq_getElem _
    exact ⟨_, hk', by rw [← (h.ix hk hk' 0).2.2.2.2.1]; exact eqS.aE h f _ h2⟩
theorem eqS.aLE {L L' : List Kd} (h : eqS L L') (ha : acL L) : acL L' := fun k hk => eqS.aE h 12 _ (ha k (by rw [h.1]; exact hk))
