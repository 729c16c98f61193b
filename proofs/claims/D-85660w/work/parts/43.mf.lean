set_option maxRecDepth 100000
/-! ===== what changes of the model: all but the fields ks stays ===== -/
def fr (ks : List Nat) (μ μ' : mm_S) : Prop := ∀ k, k ∉ ks → μ'.1 k = μ.1 k ∧ μ'.2.1 k = μ.2.1 k ∧ μ'.2.2.1 k = μ.2.2.1 k ∧ μ'.2.2.2 k = μ.2.2.2 k
theorem fr.refl {ks : List Nat} {μ : mm_S} : fr ks μ μ := fun _ _ => ⟨rfl, rfl, rfl, rfl⟩
theorem fr.trans {ks : List Nat} {μ μ1 μ2 : mm_S} (h1 : fr ks μ μ1) (h2 : fr ks μ1 μ2) : fr ks μ μ2 := fun k hk => ⟨(h2 k hk).1.trans (h1 k hk).1, (h2 k hk).2.1.trans (h1 k hk).2.1, (h2 k hk).2.2.1.trans (h1 k hk).2.2.1, (h2 k hk).2.2.2.trans (h1 k hk).2.2.2⟩
theorem fr.more {ks ls : List Nat} {μ μ' : mm_S} (h : fr ks μ μ') (hs : ∀ k ∈ ks, k ∈ ls) : fr ls μ μ' := fun k hk => h k fun h9 => hk (hs k h9)
theorem fr.sI {ks : List Nat} {μ μ1 : mm_S} {k : Nat} {x : Int32} (h : fr ks μ μ1) (hk : k ∈ ks) : fr ks μ (mm_sI μ1 k x) := fun q hq => by
  have hqk : q ≠ k := fun e => hq (e ▸ hk)
  obtain ⟨a, b, c, d⟩ := h q hq
  exact ⟨by show (if q = k then x else μ1.1 q) = _; rw [if_neg hqk]; exact a, b, c, d⟩
theorem fr.sJ {ks : List Nat} {μ μ1 : mm_S} {k : Nat} {x : Int64} (h : fr ks μ μ1) (hk : k ∈ ks) : fr ks μ (mm_sJ μ1 k x) := fun q hq => by
  have hqk : q ≠ k := fun e => hq (e ▸ hk)
  obtain ⟨a, b, c, d⟩ := h q hq
  exact ⟨a, by show (if q = k then x else μ1.2.1 q) = _; rw [if_neg hqk]; exact b, c, d⟩
theorem fr.sA {ks : List Nat} {μ μ1 : mm_S} {k i : Nat} {x : Int32} (h : fr ks μ μ1) (hk : k ∈ ks) : fr ks μ (mm_sA μ1 k i x) := fun q hq => by
  have hqk : q ≠ k := fun e => hq (e ▸ hk)
  obtain ⟨a, b, c, d⟩ := h q hq
  exact ⟨a, b, by show (if q = k then upd (μ1.2.2.1 k) i x else μ1.2.2.1 q) = _; rw [if_neg hqk]; exact c, d⟩
theorem fr.sB {ks : List Nat} {μ μ1 : mm_S} {k i : Nat} {x : Int64} (h : fr ks μ μ1) (hk : k ∈ ks) : fr ks μ (mm_sB μ1 k i x) := fun q hq => by
  have hqk : q ≠ k := fun e => hq (e ▸ hk)
  obtain ⟨a, b, c, d⟩ := h q hq
  exact ⟨a, b, c, by show (if q = k then vp_updL (μ1.2.2.2 k) i x else μ1.2.2.2 q) = _; rw [if_neg hqk]; exact d⟩
theorem mI_s {μ : mm_S} {k : Nat} {x : Int32} : mI (mm_sI μ k x) k = x := by show (if k = k then x else μ.1 k) = x; rw [if_pos rfl]
theorem mI_o {μ : mm_S} {k j : Nat} {x : Int32} (h : j ≠ k) : mI (mm_sI μ k x) j = mI μ j := by show (if j = k then x else μ.1 j) = _; rw [if_neg h]
theorem mJ_s {μ : mm_S} {k : Nat} {x : Int64} : mJ (mm_sJ μ k x) k = x := by show (if k = k then x else μ.2.1 k) = x; rw [if_pos rfl]
theorem mJ_o {μ : mm_S} {k j : Nat} {x : Int64} (h : j ≠ k) : mJ (mm_sJ μ k x) j = mJ μ j := by show (if j = k then x else μ.2.1 j) = _; rw [if_neg h]
theorem mA_s {μ : mm_S} {k i : Nat} {x : Int32} : mA (mm_sA μ k i x) k i = x := by
  show (if k = k then upd (μ.2.2.1 k) i x else μ.2.2.1 k) i = x
  rw [if_pos rfl]
  exact pk_us
theorem mA_i {μ : mm_S} {k i j : Nat} {x : Int32} (h : j ≠ i) : mA (mm_sA μ k i x) k j = mA μ k j := by
  show (if k = k then upd (μ.2.2.1 k) i x else μ.2.2.1 k) j = _
  rw [if_pos rfl]
  exact pk_un h
theorem mA_o {μ : mm_S} {k q i j : Nat} {x : Int32} (h : q ≠ k) : mA (mm_sA μ k i x) q j = mA μ q j := by
  show (if q = k then upd (μ.2.2.1 k) i x else μ.2.2.1 q) j = _
  rw [if_neg h]
theorem mB_s {μ : mm_S} {k i : Nat} {x : Int64} : mB (mm_sB μ k i x) k i = x := by
  show (if k = k then vp_updL (μ.2.2.2 k) i x else μ.2.2.2 k) i = x
  rw [if_pos rfl]
  exact pk_uLs
theorem mB_i {μ : mm_S} {k i j : Nat} {x : Int64} (h : j ≠ i) : mB (mm_sB μ k i x) k j = mB μ k j := by
  show (if k = k then vp_updL (μ.2.2.2 k) i x else μ.2.2.2 k) j = _
  rw [if_pos rfl]
  exact pk_uLn h
/-! ===== the text and its tokens (lx_) ===== -/
/-- the characters of the tape; -1 behind its end -/
def tx (μ : mm_S) (p : Nat) : Int32 := if p < (mI μ 1).toNatClampNeg then mA μ 0 p else -1
def tok (μ : mm_S) : Prop := ∃ n, n ≤ 1000 ∧ mI μ 1 = nI n ∧ ∀ p, p < n → ∃ c, c < 256 ∧ mA μ 0 p = nI c
def spn (q : Int32 → Bool) (T : Nat → Int32) : Nat → Nat → Nat
  | 0, p => p
  | f + 1, p => if q (T p) = true then spn q T f (p + 1) else p
def cSp (c : Int32) : Bool := c == 32 || c == 10
def cSm (c : Int32) : Bool := decide (97 ≤ c) && decide (c ≤ 122)
def cDg (c : Int32) : Bool := decide (48 ≤ c) && decide (c ≤ 57)
def cGr (c : Int32) : Bool := decide (65 ≤ c) && decide (c ≤ 90)
def cSg (c : Int32) : Bool := c == 123 || c == 125 || c == 40 || c == 41 || c == 59 || c == 61 || c == 43 || c == 45 || c == 42 || c == 47 || c == 60
/-- letters by six bits -/
def lcd (T : Nat → Int32) (p : Nat) : Nat → Int64
  | 0 => 0
  | n + 1 => (lcd T p n <<< ((6 : Int32).toInt64 &&& 63)) ||| Int32.toInt64 (T (p + n) - 96)
def ldg (T : Nat → Int32) (p : Nat) : Nat → Int32
  | 0 => 0
  | n + 1 => 10 * ldg T p n + T (p + n) - 48
/-- the words' codes, as learn() has them -/
def wcd (s : List Int32) : Int64 := lcd (fun i => s.getD i 0) 0 s.length
def wds : List (List Int32) := [[107, 105, 110, 100], [117, 110, 100, 101, 114], [102, 105, 101, 108, 100], [108, 105, 110, 107], [115, 116, 97, 116, 105, 99], [97, 99, 116], [103, 105, 118, 101], [102, 97, 105, 108], [97, 98, 111, 118, 101], [100, 111], [115, 101, 110, 100], [114, 101, 115, 116], [105, 102], [101, 108, 115, 101], [118], [108, 97, 115, 116], [99, 104, 97, 110, 103, 101], [100, 114, 111, 112], [109, 111, 118, 101], [114, 101, 110, 97, 109, 101], [99, 97, 114, 114, 121], [99, 104, 101, 99, 107]]
/-- a word's token, or a name's (2) -/
def wtk (c : Int64) : Nat → Int32
  | 0 => 2
  | n + 1 => if wcd (wds.getD n []) = c then 100 + nI n else wtk c n
/-- where the token at p starts -/
def lxa (T : Nat → Int32) (p : Nat) : Nat := spn cSp T 1001 p
/-- where it ends -/
def lxe (T : Nat → Int32) (p : Nat) : Nat :=
  let a := lxa T p
  if T a = -1 then a else if cSm (T a) = true then spn cSm T 1001 a else if cDg (T a) = true then spn cDg T 1001 a else if T a = 61 ∧ T (a + 1) = 61 then a + 2 else a + 1
/-- what it is -/
def lxt (T : Nat → Int32) (p : Nat) : Int32 :=
  let a := lxa T p
  let n := lxe T p - a
  if T a = -1 then 0 else if cSm (T a) = true then (if n ≤ 6 then wtk (lcd T a n) 22 else 1)
  else if cDg (T a) = true then (if n ≤ 6 ∧ cSm (T (a + n)) = false ∧ cGr (T (a + n)) = false then 3 else 1)
  else if T a = 61 ∧ T (a + 1) = 61 then 201 else if cSg (T a) = true then 200 + T a else 1
/-- a name's letters; a number -/
def lxn (T : Nat → Int32) (p : Nat) : Int64 := lcd T (lxa T p) (lxe T p - lxa T p)
def lxv (T : Nat → Int32) (p : Nat) : Int32 := ldg T (lxa T p) (lxe T p - lxa T p)
section
variable {G : am_G} {ρ : mm_F} {d : Nat} {μ : mm_S}
theorem S_see {p : Nat} {x : Int32} {Q : Int32 → mm_S → Prop} (hx : x = nI p) (ht : tok μ) (hp : p < 2 ^ 31) (h : Q (tx μ p) μ) : W_X6_see G ρ d x μ Q := by
  obtain ⟨n, hn, e, hc⟩ := ht
  subst hx
  unfold tx at h
  rw [e, nI_clamp (by omega)] at h
  refine W_X6_see_f ?_
  rw [e]
  refine ⟨fun c => ?_, fun c => ?_⟩
  · rw [if_neg (by have := (nI_leI (by omega) hp).mp c; omega)] at h; exact h
  · have hpn : p < n := by
      refine Nat.lt_of_not_le fun h9 => c ?_
      exact nI_le h9 hp
    rw [if_pos hpn] at h
    exact ⟨vp_in_nI (by omega) (by decide), by rw [nI_clamp hp]; exact h⟩
end
