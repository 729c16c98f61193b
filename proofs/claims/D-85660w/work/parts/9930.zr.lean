set_option maxRecDepth 100000
/-! ===== a run's steps ===== -/
def pay (s : RSt) : RSt := (s.1 - 1, s.2)
/-- a call -/
def goC (C : Ctx) (g : Nat) (lg : Bool) (d c : Nat) (n : Int32) (ab : List (Term × Int32 × Int32)) (v last : Int32) (b : Term) (s1 : RSt) (c' : Nat) (n' v' : Int32) (l : List (Term × Int32 × Int32)) : RO := match l with
  | [] => ((2, 1004, .thrown), last, s1)
  | t :: ab' => if d = 20 then ((2, 1005, .thrown), last, s1) else goB last (fun x s' => go C g lg d c n ab v x b s') (go C g false (d + 1) c' n' ab' v' 0 t.1 (noteR C s1 c' n' t))
section
variable {C : Ctx} {g d c : Nat} {lg : Bool} {n v last : Int32} {ab : List (Term × Int32 × Int32)} {s : RSt} {b : Term}
theorem go_end : go C g lg d c n ab v last .thrown s = ((0, 0, .thrown), last, s) := by cases g <;> rfl
theorem go_0 {st : Term} : go C 0 lg d c n ab v last (.add st b) s = ((3, 0, .thrown), last, s) := rfl
theorem go_sp {st : Term} (h : s.1 = 0) : go C (g + 1) lg d c n ab v last (.add st b) s = ((3, 0, .thrown), last, s) := by
  conv => lhs; unfold go
  exact if_pos h
theorem go_set {m : Nat} {e : Term} (h : ¬ s.1 = 0) : go C (g + 1) lg d c n ab v last (.add (.elem (.index m) e) b) s = (match ev (rdv C (pay s) c) v last e with
      | .inl q => ((2, q, .thrown), last, pay s)
      | .inr x => match wrv C (pay s) c (nI m) x with
        | none => ((2, 1001, .thrown), last, pay s)
        | some s2 => go C g lg d c n ab v last b s2) := by
  conv => lhs; unfold go
  rw [if_neg h]
  dsimp only
  show (match ev (rdv C (pay s) c) v last e with
      | .inl q => _
      | .inr x => _) = _
  cases ev (rdv C (pay s) c) v last e with
  | inl q => rfl
  | inr x =>
    dsimp only
    show (match wrv C (pay s) c (nI m) x with
        | none => _
        | some s2 => _) = _
    cases wrv C (pay s) c (nI m) x <;> rfl
theorem go_give {e : Term} (h : ¬ s.1 = 0) : go C (g + 1) lg d c n ab v last (.add (.length e) b) s = (match ev (rdv C (pay s) c) v last e with
      | .inl q => ((2, q, .thrown), last, pay s)
      | .inr x => ((1, x, .thrown), last, pay s)) := by
  conv => lhs; unfold go
  exact if_neg h
theorem go_fail {e : Term} (h : ¬ s.1 = 0) : go C (g + 1) lg d c n ab v last (.add (.sum e) b) s = (match ev (rdv C (pay s) c) v last e with
      | .inl q => ((2, q, .thrown), last, pay s)
      | .inr x => ((2, x, .thrown), last, pay s)) := by
  conv => lhs; unfold go
  exact if_neg h
theorem go_up (h : ¬ s.1 = 0) : go C (g + 1) lg d c n ab v last (.add .null b) s = (match ab with
      | [] => go C g lg d c n ab v 0 b (pay s)
      | _ :: _ => goC C g lg d c n ab v last b (pay s) c n v ab) := by
  conv => lhs; unfold go
  rw [if_neg h]
  cases ab <;> rfl
theorem go_do {a : Nat} (h : ¬ s.1 = 0) : go C (g + 1) lg d c n ab v last (.add (.arg a) b) s = goC C g lg d c n ab v last b (pay s) c (nI a) 0 (acts s.2.1 (nI a) 12 (some (cK C c))) := by
  conv => lhs; unfold go
  exact if_neg h
theorem go_send {l a : Nat} (h : ¬ s.1 = 0) : go C (g + 1) lg d c n ab v last (.add (.mul (.index l) (.index a)) b) s = (match rdv C (pay s) c (nI l) with
      | none => ((2, 1001, .thrown), last, pay s)
      | some x => match liv C x with
        | none => ((2, 1003, .thrown), last, pay s)
        | some c' => goC C g lg d c n ab v last b (pay s) c' (nI a) 0 (acts s.2.1 (nI a) 12 (some (cK C c')))) := by
  conv => lhs; unfold go
  rw [if_neg h]
  dsimp only
  show (match rdv C (pay s) c (nI l) with
      | none => _
      | some x => _) = _
  cases rdv C (pay s) c (nI l) with
  | none => rfl
  | some x =>
    dsimp only
    cases liv C x <;> rfl
theorem go_rest (h : ¬ s.1 = 0) : go C (g + 1) lg d c n ab v last (.add .result b) s = if lg = true then ((4, 0, b), last, pay s) else go C g lg d c n ab v last b (pay s) := by
  conv => lhs; unfold go
  exact if_neg h
theorem go_if {e y z : Term} (h : ¬ s.1 = 0) : go C (g + 1) lg d c n ab v last (.add (.sub e (.sub y z)) b) s = (match ev (rdv C (pay s) c) v last e with
      | .inl q => ((2, q, .thrown), last, pay s)
      | .inr x => goI (fun l2 s2 => go C g lg d c n ab v l2 b s2) (go C g false d c n ab v last (if x = 0 then z else y) (pay s))) := by
  conv => lhs; unfold go
  rw [if_neg h]
  dsimp only
  show (match ev (rdv C (pay s) c) v last e with
      | .inl q => _
      | .inr x => _) = _
  cases ev (rdv C (pay s) c) v last e <;> rfl
end
theorem goC_fuel {C : Ctx} {g d c c' : Nat} {lg : Bool} {n n' v v' last : Int32} {ab l : List (Term × Int32 × Int32)} {s1 : RSt} {b : Term} {m : Nat} (ih : ∀ (lg : Bool) (d c : Nat) (n : Int32) (ab : List (Term × Int32 × Int32)) (v last : Int32) (b : Term) (s : RSt), okB b 12 → (go C g lg d c n ab v last b s).2.2.1 ≤ s.1) (hs : s1.1 ≤ m) (hb : okB b 12) (hl : ∀ t, t ∈ l → okB t.1 12) : (goC C g lg d c n ab v last b s1 c' n' v' l).2.2.1 ≤ m := by
  unfold goC
  cases l with
  | nil => exact hs
  | cons t ab' =>
    dsimp only
    split
    · exact hs
    · refine goB_fuel (Nat.le_trans (ih _ _ _ _ _ _ _ _ _ (hl t List.mem_cons_self)) (by rw [noteR_fuel]; exact hs)) fun x s' hs' => Nat.le_trans (ih _ _ _ _ _ _ _ _ _ hb) hs'
theorem okB_up : ∀ (b : Term) (r r' : Nat), r ≤ r' → okB b r → okB b r'
  | .thrown, _, _, _, _ => trivial
  | .add (.elem (.index _) e) b, r, r', h, hb => ⟨hb.1, okB_up b r r' h hb.2⟩
  | .add (.length e) b, r, r', h, hb => ⟨hb.1, okB_up b r r' h hb.2⟩
  | .add (.sum e) b, r, r', h, hb => ⟨hb.1, okB_up b r r' h hb.2⟩
  | .add .null b, r, r', h, hb => okB_up b r r' h hb
  | .add (.arg _) b, r, r', h, hb => okB_up b r r' h hb
  | .add (.mul (.index _) (.index _)) b, r, r', h, hb => okB_up b r r' h hb
  | .add .result b, r, r', h, hb => okB_up b r r' h hb
  | .add (.sub e (.sub y z)) b, r, r', h, hb => ⟨hb.1, by have := hb.2.1; omega, okB_up y (r - 1) (r' - 1) (by omega) hb.2.2.1, okB_up z (r - 1) (r' - 1) (by omega) hb.2.2.2.1, okB_up b r r' h hb.2.2.2.2⟩
/-- acts of well formed kinds are not deep -/
theorem acts_ok {L : List Kd} (hw : ∀ (k : Nat) (kd : Kd), L[k]? = some kd → KdI kd) {n : Int32} : ∀ (f : Nat) (o : Option Nat), ∀ t, t ∈ acts L n f o → okB t.1 12
  | f, none, t, h => by rw [acts_none] at h; cases h
  | 0, some _, t, h => by cases h
  | f + 1, some k, t, h => by
    cases hk : L[k]? with
    | none =>
      have : acts L n (f + 1) (some k) = [] := by
        show (match L[k]? with | none => [] | some kd => actK kd n ++ acts L n f (kA kd)) = _
        rw [hk]
      rw [this] at h
      cases h
    | some kd =>
      rw [acts_some hk] at h
      rcases List.mem_append.mp h with h | h
      · unfold actK at h
        cases hx : ixA kd n with
        | none => rw [hx] at h; cases h
        | some i =>
          rw [hx] at h
          dsimp only at h
          cases hy : (kX kd)[i]? with
          | none => rw [hy] at h; cases h
          | some x =>
            rw [hy] at h
            rw [List.mem_singleton.mp h]
            exact ((hw k kd hk).2.2.2.1 x (List.mem_of_getElem? hy)).2
      · exact acts_ok hw f _ t h
/-- kinds that a run meets are as they were but for the values of statics -/
theorem wrv_eqS {C : Ctx} {s s' : RSt} {c : Nat} {n v : Int32} (h : wrv C s c n v = some s') : eqS s.2.1 s'.2.1 := by
  unfold wrv at h
  cases hf : fUp s.2.1 (C.2.2.1 c) n with
  | some u => rw [hf] at h; cases h; exact eqS.refl
  | none =>
    rw [hf] at h
    cases hs : sUp s.2.1 (C.2.2.1 c) n with
    | some u =>
      rw [hs] at h
      cases h
      exact stS_eqS
    | none =>
      rw [hs] at h
      by_cases h9 : C.2.2.2.1 (ixV c n) = 0
      · rw [if_pos h9] at h; cases h
      · rw [if_neg h9] at h; cases h; exact eqS.refl
theorem noteR_L {C : Ctx} {s : RSt} {c : Nat} {n : Int32} {t : Term × Int32 × Int32} : (noteR C s c n t).2.1 = s.2.1 := by
  unfold noteR
  split <;> rfl
