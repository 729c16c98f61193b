set_option maxRecDepth 100000
/-! ===== kinds as lists: (name, above, generation, changed, old), fields (name, first, origin), statics (name, value), acts (name, block) ===== -/
abbrev Kd : Type := (Int32 × Option Nat × Int32 × Bool × Option Nat) × List (Int32 × Int32 × Int32) × List (Int32 × Int32) × List (Int32 × Term)
abbrev kN (k : Kd) : Int32 := k.1.1
abbrev kA (k : Kd) : Option Nat := k.1.2.1
abbrev kG (k : Kd) : Int32 := k.1.2.2.1
abbrev kC (k : Kd) : Bool := k.1.2.2.2.1
abbrev kO (k : Kd) : Option Nat := k.1.2.2.2.2
abbrev kF (k : Kd) : List (Int32 × Int32 × Int32) := k.2.1
abbrev kS (k : Kd) : List (Int32 × Int32) := k.2.2.1
abbrev kX (k : Kd) : List (Int32 × Term) := k.2.2.2
def oI (o : Option Nat) : Int32 := match o with
  | none => -1
  | some i => nI i
/-- the place of the first with a name -/
def ixf {α : Type} (key : α → Int32) (x : Int32) : List α → Option Nat
  | [] => none
  | a :: l => if key a = x then some 0 else (ixf key x l).map (· + 1)
theorem oI_none : oI none = -1 := rfl
theorem oI_some {i : Nat} : oI (some i) = nI i := rfl
theorem oI_m1 {o : Option Nat} (h : ∀ i, o = some i → i < 2 ^ 31) : oI o = -1 ↔ o = none := by
  cases o with
  | none => exact ⟨fun _ => rfl, fun _ => rfl⟩
  | some i => exact ⟨fun e => absurd e (nI_m1 (h i rfl)), fun e => absurd e (by simp)⟩
theorem ixf_lt {α : Type} {key : α → Int32} {x : Int32} : ∀ {l : List α} {i : Nat}, ixf key x l = some i → i < l.length
  | [], i, h => by cases h
  | a :: l, i, h => by
    unfold ixf at h
    by_cases h1 : key a = x
    · rw [if_pos h1] at h
      cases h
      simp
    · rw [if_neg h1] at h
      cases h2 : ixf key x l with
      | none => rw [h2] at h; cases h
      | some j =>
        rw [h2] at h
        cases h
        have := ixf_lt h2
        simp only [List.length_cons]
        omega
theorem ixf_some {α : Type} {key : α → Int32} {x : Int32} : ∀ {l : List α} {i : Nat}, ixf key x l = some i → ∃ a, l[i]? = some a ∧ key a = x
  | [], i, h => by cases h
  | a :: l, i, h => by
    unfold ixf at h
    by_cases h1 : key a = x
    · rw [if_pos h1] at h
      cases h
      exact ⟨a, rfl, h1⟩
    · rw [if_neg h1] at h
      cases h2 : ixf key x l with
      | none => rw [h2] at h; cases h
      | some j =>
        rw [h2] at h
        cases h
        obtain ⟨b, e1, e2⟩ := ixf_some h2
        exact ⟨b, by simpa using e1, e2⟩
theorem ixf_none {α : Type} {key : α → Int32} {x : Int32} : ∀ {l : List α}, ixf key x l = none → ∀ a ∈ l, ¬ key a = x
  | [], _, a, ha => by cases ha
  | b :: l, h, a, ha => by
    unfold ixf at h
    by_cases h1 : key b = x
    · rw [if_pos h1] at h; cases h
    · rw [if_neg h1] at h
      have h2 : ixf key x l = none := by
        cases h3 : ixf key x l with
        | none => rfl
        | some j => rw [h3] at h; cases h
      rcases List.mem_cons.mp ha with rfl | hm
      · exact h1
      · exact ixf_none h2 a hm
theorem ixf_app {α : Type} {key : α → Int32} {x : Int32} {b : α} : ∀ {l : List α}, ixf key x (l ++ [b]) = match ixf key x l with
    | some i => some i
    | none => if key b = x then some l.length else none
  | [] => by
    show (if key b = x then some 0 else none) = _
    rfl
  | a :: l => by
    show (if key a = x then some 0 else (ixf key x (l ++ [b])).map (· + 1)) = match (if key a = x then some 0 else (ixf key x l).map (· + 1)) with
      | some i => some i
      | none => if key b = x then some (l.length + 1) else none
    by_cases h1 : key a = x
    · rw [if_pos h1, if_pos h1]
    · rw [if_neg h1, if_neg h1, ixf_app (l := l)]
      cases ixf key x l with
      | some i => rfl
      | none =>
        by_cases h2 : key b = x
        · simp [h2]
        · simp [h2]
theorem fs_ixf {α : Type} {key : α → Int32} {v : Nat → Int32} {x : Int32} : ∀ (l : List α) (i : Nat), (∀ j a, l[j]? = some a → v (i + j) = key a) → fs v x l.length i = match ixf key x l with
    | none => -1
    | some j => nI (i + j)
  | [], i, _ => rfl
  | a :: l, i, h => by
    have h0 : v i = key a := h 0 a rfl
    show (if v i = x then nI i else fs v x l.length (i + 1)) = match (if key a = x then some 0 else (ixf key x l).map (· + 1)) with
      | none => -1
      | some j => nI (i + j)
    rw [h0]
    by_cases h1 : key a = x
    · rw [if_pos h1, if_pos h1]; rfl
    · rw [if_neg h1, if_neg h1, fs_ixf l (i + 1) fun j b hj => by
        have := h (j + 1) b (by simpa using hj)
        rw [show i + 1 + j = i + (j + 1) by omega]
        exact this]
      cases ixf key x l with
      | none => rfl
      | some j =>
        show nI (i + 1 + j) = nI (i + (j + 1))
        congr 1
        omega
theorem fs_ix0 {α : Type} {key : α → Int32} {v : Nat → Int32} {x : Int32} {l : List α} (h : ∀ j a, l[j]? = some a → v j = key a) : fs v x l.length 0 = oI (ixf key x l) := by
  rw [fs_ixf l 0 fun j a hj => by rw [Nat.zero_add]; exact h j a hj]
  cases ixf key x l with
  | none => rfl
  | some j =>
    show nI (0 + j) = nI j
    rw [Nat.zero_add]
abbrev ixF (k : Kd) (x : Int32) : Option Nat := ixf (fun f : Int32 × Int32 × Int32 => f.1) x (kF k)
abbrev ixS (k : Kd) (x : Int32) : Option Nat := ixf (fun f : Int32 × Int32 => f.1) x (kS k)
abbrev ixA (k : Kd) (x : Int32) : Option Nat := ixf (fun f : Int32 × Term => f.1) x (kX k)
abbrev ixK (L : List Kd) (x : Int32) : Option Nat := ixf kN x L
/-- a kind's row of a world; bd: a block and its node -/
def isKr (bd : Term → Int32 → Prop) (r : Nat → Int32) (kd : Kd) : Prop :=
  r 0 = kN kd ∧ r 1 = oI (kA kd) ∧ r 2 = kG kd ∧ r 3 = (if kC kd = true then 1 else 0) ∧ r 4 = oI (kO kd) ∧
  (r 5 = nI (kF kd).length ∧ (kF kd).length ≤ 8 ∧ ∀ i f, (kF kd)[i]? = some f → r (6 + i) = f.1 ∧ r (14 + i) = f.2.1 ∧ r (22 + i) = f.2.2) ∧
  (r 30 = nI (kS kd).length ∧ (kS kd).length ≤ 4 ∧ ∀ i f, (kS kd)[i]? = some f → r (31 + i) = f.1 ∧ r (35 + i) = f.2) ∧
  (r 39 = nI (kX kd).length ∧ (kX kd).length ≤ 8 ∧ ∀ i f, (kX kd)[i]? = some f → r (40 + i) = f.1 ∧ bd f.2 (r (48 + i)))
def isKd (bd : Term → Int32 → Prop) (μ : mm_S) (w k : Nat) (kd : Kd) : Prop := isKr bd (wd μ w k) kd
/-- a world -/
def isW (bd : Term → Int32 → Prop) (μ : mm_S) (w : Nat) (L : List Kd) : Prop := wm μ w = nI L.length ∧ L.length ≤ 12 ∧ ∀ k kd, L[k]? = some kd → isKd bd μ w k kd
/-- the way up ends within f steps -/
def ac (L : List Kd) : Nat → Option Nat → Prop
  | _, none => True
  | 0, some _ => False
  | f + 1, some k => ∃ kd, L[k]? = some kd ∧ ac L f (kA kd)
def acL (L : List Kd) : Prop := ∀ k, k < L.length → ac L 12 (some k)
/-- the first from one up that is so -/
def upK (L : List Kd) (q : Kd → Bool) : Nat → Option Nat → Option Nat
  | _, none => none
  | 0, some _ => none
  | f + 1, some k => match L[k]? with
    | none => none
    | some kd => if q kd = true then some k else upK L q f (kA kd)
theorem ac.mono {L : List Kd} : ∀ {f g : Nat} {o : Option Nat}, f ≤ g → ac L f o → ac L g o
  | 0, 0, _, _, h => h
  | 0, g + 1, none, _, _ => trivial
  | 0, g + 1, some _, _, h => False.elim h
  | f + 1, g + 1, none, _, _ => trivial
  | f + 1, g + 1, some k, hg, ⟨kd, h1, h2⟩ => ⟨kd, h1, h2.mono (by omega)⟩
theorem isKd.kok {bd : Term → Int32 → Prop} {μ : mm_S} {w k : Nat} {kd : Kd} (h : isKd bd μ w k kd) : kok μ w k := by
  obtain ⟨-, -, -, -, -, ⟨a1, a2, -⟩, ⟨b1, b2, -⟩, c1, c2, -⟩ := h
  exact ⟨⟨_, a2, a1⟩, ⟨_, b2, b1⟩, ⟨_, c2, c1⟩⟩
theorem isW.lt {bd : Term → Int32 → Prop} {μ : mm_S} {w k : Nat} {L : List Kd} (h : isW bd μ w L) {kd : Kd} (hk : L[k]? = some kd) : k < 12 := by
  have h1 := (List.getElem?_eq_some_iff.mp hk).1
  have := h.2.1
  omega
theorem ac.toCok {bd : Term → Int32 → Prop} {μ : mm_S} {w : Nat} {L : List Kd} (hW : isW bd μ w L) : ∀ {f : Nat} {o : Option Nat}, ac L f o → cok (fun k => wd μ w k 1) L.length f (oI o)
  | 0, none, _ => rfl
  | f + 1, none, _ => Or.inl rfl
  | 0, some k, h => False.elim h
  | f + 1, some k, ⟨kd, h1, h2⟩ => Or.inr ⟨k, (List.getElem?_eq_some_iff.mp h1).1, rfl, by
      show cok (fun k => wd μ w k 1) L.length f (wd μ w k 1)
      rw [(hW.2.2 k kd h1).2.1]
      exact h2.toCok hW⟩
theorem isW.wok {bd : Term → Int32 → Prop} {μ : mm_S} {w : Nat} {L : List Kd} (hW : isW bd μ w L) (hL : acL L) : wok μ w :=
  ⟨L.length, hW.2.1, hW.1, fun k hk => (hW.2.2 k L[k] (List.getElem?_eq_getElem hk)).kok, fun k hk => (hL k hk).toCok hW⟩
theorem fat_upK {bd : Term → Int32 → Prop} {μ : mm_S} {w : Nat} {L : List Kd} (hW : isW bd μ w L) {q : Kd → Bool} {q' : Nat → Bool} (hq : ∀ k kd, L[k]? = some kd → q' k = q kd) : ∀ {f : Nat} {o : Option Nat}, ac L f o → fat (fun k => wd μ w k 1) q' f (oI o) = oI (upK L q f o)
  | 0, none, _ => rfl
  | f + 1, none, _ => by rw [oI_none, fat_N]; rfl
  | 0, some k, h => False.elim h
  | f + 1, some k, ⟨kd, h1, h2⟩ => by
    have hlt := hW.lt h1
    rw [oI_some, fat_S (by omega), hq k kd h1]
    show _ = oI (match L[k]? with
      | none => none
      | some kd => if q kd = true then some k else upK L q f (kA kd))
    rw [h1]
    by_cases hb : q kd = true
    · rw [if_pos hb]; simp only [if_pos hb]; rfl
    · rw [if_neg hb]
      simp only [if_neg hb]
      rw [(hW.2.2 k kd h1).2.1]
      exact fat_upK hW hq h2
theorem fld_ix {bd : Term → Int32 → Prop} {μ : mm_S} {w k : Nat} {kd : Kd} {n : Int32} (h : isKd bd μ w k kd) : fld μ w k n = oI (ixF kd n) := by
  obtain ⟨-, -, -, -, -, ⟨a1, a2, a3⟩, -⟩ := h
  unfold fld
  rw [a1, nI_clamp (by omega)]
  exact fs_ix0 fun j f hj => (a3 j f hj).1
theorem fxd_ix {bd : Term → Int32 → Prop} {μ : mm_S} {w k : Nat} {kd : Kd} {n : Int32} (h : isKd bd μ w k kd) : fxd μ w k n = oI (ixS kd n) := by
  obtain ⟨-, -, -, -, -, -, ⟨a1, a2, a3⟩, -⟩ := h
  unfold fxd
  rw [a1, nI_clamp (by omega)]
  exact fs_ix0 fun j f hj => (a3 j f hj).1
theorem act_ix {bd : Term → Int32 → Prop} {μ : mm_S} {w k : Nat} {kd : Kd} {n : Int32} (h : isKd bd μ w k kd) : act μ w k n = oI (ixA kd n) := by
  obtain ⟨-, -, -, -, -, -, -, a1, a2, a3⟩ := h
  unfold act
  rw [a1, nI_clamp (by omega)]
  exact fs_ix0 fun j f hj => (a3 j f hj).1
theorem fnd_ix {bd : Term → Int32 → Prop} {μ : mm_S} {w : Nat} {L : List Kd} {n : Int32} (h : isW bd μ w L) : fnd μ w n = oI (ixK L n) := by
  obtain ⟨a1, a2, a3⟩ := h
  unfold fnd
  rw [a1, nI_clamp (by omega)]
  exact fs_ix0 fun j f hj => (a3 j f hj).1
theorem oI_ne {o : Option Nat} (h : ∀ i, o = some i → i < 2 ^ 31) : (oI o != -1) = o.isSome := by
  cases o with
  | none => rfl
  | some i =>
    have := nI_m1 (h i rfl)
    show (nI i != -1) = true
    simp [this]
theorem ixF_lt {bd : Term → Int32 → Prop} {μ : mm_S} {w k : Nat} {kd : Kd} (h : isKd bd μ w k kd) {n : Int32} {i : Nat} (hi : ixF kd n = some i) : i < 8 := by
  have := ixf_lt hi
  have := h.2.2.2.2.2.1.2.1
  omega
theorem ixS_lt {bd : Term → Int32 → Prop} {μ : mm_S} {w k : Nat} {kd : Kd} (h : isKd bd μ w k kd) {n : Int32} {i : Nat} (hi : ixS kd n = some i) : i < 4 := by
  have := ixf_lt hi
  have := h.2.2.2.2.2.2.1.2.1
  omega
theorem ixA_lt {bd : Term → Int32 → Prop} {μ : mm_S} {w k : Nat} {kd : Kd} (h : isKd bd μ w k kd) {n : Int32} {i : Nat} (hi : ixA kd n = some i) : i < 8 := by
  have := ixf_lt hi
  have := h.2.2.2.2.2.2.2.2.1
  omega
def hasO (n : Int32) (kd : Kd) : Bool := (ixF kd n).isSome || (ixS kd n).isSome
theorem own_ix {bd : Term → Int32 → Prop} {μ : mm_S} {w k : Nat} {kd : Kd} {n : Int32} (h : isKd bd μ w k kd) : own μ w k n = hasO n kd := by
  unfold own hasO
  rw [fld_ix h, fxd_ix h, oI_ne fun i hi => by have := ixF_lt h hi; omega, oI_ne fun i hi => by have := ixS_lt h hi; omega]
section
variable {G : am_G} {ρ : mm_F} {d : Nat} {μ : mm_S} {bd : Term → Int32 → Prop} {w : Nat} {L : List Kd}
theorem K_field {k : Nat} {kd : Kd} {x1 x2 n : Int32} {Q : Int32 → mm_S → Prop} (h1 : x1 = nI w) (h2 : x2 = nI k) (hw : w < 3) (hk : k < 12) (hK : isKd bd μ w k kd) (h : Q (oI (ixF kd n)) μ) : W_X6_field G ρ (d + 1) x1 x2 n μ Q := S_fld h1 h2 hw hk hK.kok (by rw [fld_ix hK]; exact h)
theorem K_fixedOf {k : Nat} {kd : Kd} {x1 x2 n : Int32} {Q : Int32 → mm_S → Prop} (h1 : x1 = nI w) (h2 : x2 = nI k) (hw : w < 3) (hk : k < 12) (hK : isKd bd μ w k kd) (h : Q (oI (ixS kd n)) μ) : W_X6_fixedOf G ρ (d + 1) x1 x2 n μ Q := S_fxd h1 h2 hw hk hK.kok (by rw [fxd_ix hK]; exact h)
theorem K_actOf {k : Nat} {kd : Kd} {x1 x2 n : Int32} {Q : Int32 → mm_S → Prop} (h1 : x1 = nI w) (h2 : x2 = nI k) (hw : w < 3) (hk : k < 12) (hK : isKd bd μ w k kd) (h : Q (oI (ixA kd n)) μ) : W_X6_actOf G ρ (d + 1) x1 x2 n μ Q := S_act h1 h2 hw hk hK.kok (by rw [act_ix hK]; exact h)
theorem K_hasOwn {k : Nat} {kd : Kd} {x1 x2 n : Int32} {Q : Int32 → mm_S → Prop} (h1 : x1 = nI w) (h2 : x2 = nI k) (hw : w < 3) (hk : k < 12) (hK : isKd bd μ w k kd) (h : Q (if hasO n kd = true then 1 else 0) μ) : W_X6_hasOwn G ρ (d + 2) x1 x2 n μ Q := S_hasOwn h1 h2 hw hk hK.kok (by rw [own_ix hK]; exact h)
theorem K_find {x1 n : Int32} {Q : Int32 → mm_S → Prop} (h1 : x1 = nI w) (hw : w < 3) (hW : isW bd μ w L) (h : Q (oI (ixK L n)) μ) : W_X6_find G ρ (d + 1) x1 n μ Q := by
  refine S_find h1 hw hW.1 hW.2.1 ?_
  rw [fs_ix0 (key := kN) fun j f hj => (hW.2.2 j f hj).1]
  exact h
theorem ac_wok {o : Option Nat} (hW : isW bd μ w L) (hL : acL L) (ho : ∀ k, o = some k → k < L.length) : ac L 12 o := by
  cases o with
  | none => trivial
  | some k => exact hL k (ho k rfl)
theorem oI_wok {o : Option Nat} (hW : isW bd μ w L) (ho : ∀ k, o = some k → k < L.length) : oI o = -1 ∨ ∃ k, oI o = nI k ∧ nI k < wm μ w ∧ k < 12 := by
  cases o with
  | none => exact Or.inl rfl
  | some k =>
    have h1 := ho k rfl
    have h2 := hW.2.1
    refine Or.inr ⟨k, rfl, ?_, by omega⟩
    rw [hW.1]
    exact nI_lt h1 (by omega)
theorem K_fieldAt {o : Option Nat} {x1 x2 n : Int32} {Q : Int32 → mm_S → Prop} (h1 : x1 = nI w) (h2 : x2 = oI o) (hw : w < 3) (hW : isW bd μ w L) (hL : acL L) (ho : ∀ k, o = some k → k < L.length) (h : Q (oI (upK L (fun kd => (ixF kd n).isSome) 12 o)) μ) : W_X6_fieldAt G ρ (d + 2) x1 x2 n μ Q := by
  subst h2
  refine S_fieldAt h1 hw (hW.wok hL) (oI_wok hW ho) ?_
  rw [fat_upK hW (q := fun kd => (ixF kd n).isSome) (fun k kd hk => by rw [fld_ix (hW.2.2 k kd hk), oI_ne fun i hi => by have := ixF_lt (hW.2.2 k kd hk) hi; omega]) (ac_wok hW hL ho)]
  exact h
theorem K_fixedAt {o : Option Nat} {x1 x2 n : Int32} {Q : Int32 → mm_S → Prop} (h1 : x1 = nI w) (h2 : x2 = oI o) (hw : w < 3) (hW : isW bd μ w L) (hL : acL L) (ho : ∀ k, o = some k → k < L.length) (h : Q (oI (upK L (fun kd => (ixS kd n).isSome) 12 o)) μ) : W_X6_fixedAt G ρ (d + 2) x1 x2 n μ Q := by
  subst h2
  refine S_fixedAt h1 hw (hW.wok hL) (oI_wok hW ho) ?_
  rw [fat_upK hW (q := fun kd => (ixS kd n).isSome) (fun k kd hk => by rw [fxd_ix (hW.2.2 k kd hk), oI_ne fun i hi => by have := ixS_lt (hW.2.2 k kd hk) hi; omega]) (ac_wok hW hL ho)]
  exact h
theorem K_isAbove {k : Nat} {kd : Kd} {x1 x2 n : Int32} {Q : Int32 → mm_S → Prop} (h1 : x1 = nI w) (h2 : x2 = nI k) (hw : w < 3) (hW : isW bd μ w L) (hL : acL L) (hk : L[k]? = some kd) (h : Q (if (upK L (hasO n) 12 (kA kd)).isSome = true then 1 else 0) μ) : W_X6_isAbove G ρ (d + 3) x1 x2 n μ Q := by
  have hlt := hW.lt hk
  have hac : ac L 12 (kA kd) := by
    have h9 := hL k (List.getElem?_eq_some_iff.mp hk).1
    obtain ⟨kd', e1, e2⟩ := h9
    rw [hk] at e1
    cases e1
    exact ac.mono (show 11 ≤ 12 by decide) e2
  refine W_X6_isAbove_f (S_get (f := 1) h1 h2 rfl hw hlt (by omega) ?_)
  rw [(hW.2.2 k kd hk).2.1]
  refine S_isAbove_l (m := L.length) h1 hw hW.2.1 (fun j hj => (hW.2.2 j L[j] (List.getElem?_eq_getElem hj)).kok) 12 (hac.toCok hW) ?_
  rw [fat_upK hW (q := hasO n) (fun k kd hk => own_ix (hW.2.2 k kd hk)) hac]
  cases hu : upK L (hasO n) 12 (kA kd) with
  | none => rw [hu] at h; exact h
  | some u =>
    rw [hu] at h
    rw [oI_some, if_neg]
    · exact h
    · refine nI_m1 ?_
      have : ∀ {f : Nat} {o : Option Nat} {u : Nat}, upK L (hasO n) f o = some u → u < L.length := by
        intro f
        induction f with
        | zero => intro o u h; cases o <;> cases h
        | succ f ih =>
          intro o u h
          cases o with
          | none => cases h
          | some k =>
            unfold upK at h
            cases hk : L[k]? with
            | none => rw [hk] at h; cases h
            | some kd =>
              rw [hk] at h
              dsimp only at h
              by_cases hb : hasO n kd = true
              · rw [if_pos hb] at h
                cases h
                exact (List.getElem?_eq_some_iff.mp hk).1
              · rw [if_neg hb] at h
                exact ih h
      have h3 := this hu
      have := hW.2.1
      omega
end
