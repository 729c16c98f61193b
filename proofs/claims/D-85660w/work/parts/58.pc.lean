set_option maxRecDepth 100000
theorem nf_eq {nd nd' : Nat → Int32} {B lo m : Nat} (h : ∀ q, 5 * (B + lo) ≤ q → q < 5 * (B + m) → nd' q = nd q) {k f : Nat} (hl : lo ≤ k) (hk : k < m) (hf : f < 5) : nf nd' B k f = nf nd B k f := h _ (by omega) (by omega)
theorem isB.mono {nd nd' : Nat → Int32} {B lo M : Nat} (h : ∀ q, 5 * (B + lo) ≤ q → q < 5 * (B + M) → nd' q = nd q) : ∀ (t : Term) (m : Nat) (x : Int32), m ≤ M → isB nd B lo t m x → isB nd' B lo t m x
  | .thrown, m, x, hm, hB => hB
  | .add (.elem (.index n) e) b, m, x, hm, hB => by
    obtain ⟨k, e0, el, e1, e2, e3, e4, ⟨i, e5, e6, e7⟩, e8⟩ := hB
    refine ⟨k, e0, el, e1, ?_, ?_, e4, ⟨i, e5, ?_, isE.mono (m := M) h (by omega) e7⟩, ?_⟩
    · rw [nf_eq h el (by omega) (by decide)]; exact e2
    · rw [nf_eq h el (by omega) (by decide)]; exact e3
    · rw [nf_eq h el (by omega) (by decide)]; exact e6
    · rw [nf_eq h el (by omega) (by decide)]; exact isB.mono h b m _ hm e8
  | .add (.length e) b, m, x, hm, hB => by
    obtain ⟨k, e0, el, e1, e2, ⟨i, e5, e6, e7⟩, e8⟩ := hB
    refine ⟨k, e0, el, e1, ?_, ⟨i, e5, ?_, isE.mono (m := M) h (by omega) e7⟩, ?_⟩
    · rw [nf_eq h el (by omega) (by decide)]; exact e2
    · rw [nf_eq h el (by omega) (by decide)]; exact e6
    · rw [nf_eq h el (by omega) (by decide)]; exact isB.mono h b m _ hm e8
  | .add (.sum e) b, m, x, hm, hB => by
    obtain ⟨k, e0, el, e1, e2, ⟨i, e5, e6, e7⟩, e8⟩ := hB
    refine ⟨k, e0, el, e1, ?_, ⟨i, e5, ?_, isE.mono (m := M) h (by omega) e7⟩, ?_⟩
    · rw [nf_eq h el (by omega) (by decide)]; exact e2
    · rw [nf_eq h el (by omega) (by decide)]; exact e6
    · rw [nf_eq h el (by omega) (by decide)]; exact isB.mono h b m _ hm e8
  | .add .null b, m, x, hm, hB => by
    obtain ⟨k, e0, el, e1, e2, e8⟩ := hB
    refine ⟨k, e0, el, e1, ?_, ?_⟩
    · rw [nf_eq h el (by omega) (by decide)]; exact e2
    · rw [nf_eq h el (by omega) (by decide)]; exact isB.mono h b m _ hm e8
  | .add (.arg a) b, m, x, hm, hB => by
    obtain ⟨k, e0, el, e1, e2, e3, e4, e8⟩ := hB
    refine ⟨k, e0, el, e1, ?_, ?_, e4, ?_⟩
    · rw [nf_eq h el (by omega) (by decide)]; exact e2
    · rw [nf_eq h el (by omega) (by decide)]; exact e3
    · rw [nf_eq h el (by omega) (by decide)]; exact isB.mono h b m _ hm e8
  | .add (.mul (.index l) (.index a)) b, m, x, hm, hB => by
    obtain ⟨k, e0, el, e1, e2, e3, e4, e5, e6, e8⟩ := hB
    refine ⟨k, e0, el, e1, ?_, ?_, e4, ?_, e6, ?_⟩
    · rw [nf_eq h el (by omega) (by decide)]; exact e2
    · rw [nf_eq h el (by omega) (by decide)]; exact e3
    · rw [nf_eq h el (by omega) (by decide)]; exact e5
    · rw [nf_eq h el (by omega) (by decide)]; exact isB.mono h b m _ hm e8
  | .add .result b, m, x, hm, hB => by
    obtain ⟨k, e0, el, e1, e2, e8⟩ := hB
    refine ⟨k, e0, el, e1, ?_, ?_⟩
    · rw [nf_eq h el (by omega) (by decide)]; exact e2
    · rw [nf_eq h el (by omega) (by decide)]; exact isB.mono h b m _ hm e8
  | .add (.sub e (.sub y n)) b, m, x, hm, hB => by
    obtain ⟨k, e0, el, e1, e2, ⟨i, e5, e6, e7⟩, e9, e10, e8⟩ := hB
    refine ⟨k, e0, el, e1, ?_, ⟨i, e5, ?_, isE.mono (m := M) h (by omega) e7⟩, ?_, ?_, ?_⟩
    · rw [nf_eq h el (by omega) (by decide)]; exact e2
    · rw [nf_eq h el (by omega) (by decide)]; exact e6
    · rw [nf_eq h el (by omega) (by decide)]; exact isB.mono h y k _ (by omega) e9
    · rw [nf_eq h el (by omega) (by decide)]; exact isB.mono h n k _ (by omega) e10
    · rw [nf_eq h el (by omega) (by decide)]; exact isB.mono h b m _ hm e8
/-- what is said of a statement's node k: its own fields but the last, and what lies below it -/
def isT (nd : Nat → Int32) (B lo : Nat) (s : Term) (k : Nat) : Prop := match s with
  | .elem (.index n) e => nf nd B k 0 = 20 ∧ nf nd B k 1 = nI n ∧ n < 40 ∧ ∃ i, i < k ∧ nf nd B k 2 = nI i ∧ isE nd B lo e i
  | .length e => nf nd B k 0 = 21 ∧ ∃ i, i < k ∧ nf nd B k 1 = nI i ∧ isE nd B lo e i
  | .sum e => nf nd B k 0 = 22 ∧ ∃ i, i < k ∧ nf nd B k 1 = nI i ∧ isE nd B lo e i
  | .null => nf nd B k 0 = 23
  | .arg a => nf nd B k 0 = 24 ∧ nf nd B k 1 = nI a ∧ a < 40
  | .mul (.index l) (.index a) => nf nd B k 0 = 25 ∧ nf nd B k 1 = nI l ∧ l < 40 ∧ nf nd B k 2 = nI a ∧ a < 40
  | .result => nf nd B k 0 = 26
  | .sub e (.sub y n) => nf nd B k 0 = 27 ∧ (∃ i, i < k ∧ nf nd B k 1 = nI i ∧ isE nd B lo e i) ∧ isB nd B lo y k (nf nd B k 2) ∧ isB nd B lo n k (nf nd B k 3)
  | _ => False
theorem isB_cons {nd : Nat → Int32} {B lo m k : Nat} {s b : Term} (hl : lo ≤ k) (hk : k < m) (hT : isT nd B lo s k) (hb : isB nd B lo b m (nf nd B k 4)) : isB nd B lo (.add s b) m (nI k) := by
  unfold isT at hT
  split at hT
  · obtain ⟨a1, a2, a3, a4⟩ := hT
    exact ⟨k, rfl, hl, hk, a1, a2, a3, a4, hb⟩
  · obtain ⟨a1, a2⟩ := hT
    exact ⟨k, rfl, hl, hk, a1, a2, hb⟩
  · obtain ⟨a1, a2⟩ := hT
    exact ⟨k, rfl, hl, hk, a1, a2, hb⟩
  · exact ⟨k, rfl, hl, hk, hT, hb⟩
  · obtain ⟨a1, a2, a3⟩ := hT
    exact ⟨k, rfl, hl, hk, a1, a2, a3, hb⟩
  · obtain ⟨a1, a2, a3, a4, a5⟩ := hT
    exact ⟨k, rfl, hl, hk, a1, a2, a3, a4, a5, hb⟩
  · exact ⟨k, rfl, hl, hk, hT, hb⟩
  · obtain ⟨a1, a2, a3, a4⟩ := hT
    exact ⟨k, rfl, hl, hk, a1, a2, a3, a4, hb⟩
  · exact hT.elim
/-- a statement's node stays one while the nodes below it and its own first fields stay -/
theorem isT.mono {nd nd' : Nat → Int32} {B lo k : Nat} {s : Term} (hl : lo ≤ k) (h : ∀ q, 5 * (B + lo) ≤ q → q < 5 * (B + k) + 4 → nd' q = nd q) (hT : isT nd B lo s k) : isT nd' B lo s k := by
  have hk : ∀ q, 5 * (B + lo) ≤ q → q < 5 * (B + k) → nd' q = nd q := fun q h1 hq => h q h1 (by omega)
  have hf : ∀ f, f < 4 → nf nd' B k f = nf nd B k f := fun f hf => h _ (by omega) (by omega)
  unfold isT at hT ⊢
  split at hT
  · obtain ⟨a1, a2, a3, i, a4, a5, a6⟩ := hT
    exact ⟨by rw [hf 0 (by decide)]; exact a1, by rw [hf 1 (by decide)]; exact a2, a3, i, a4, by rw [hf 2 (by decide)]; exact a5, isE.mono hk a4 a6⟩
  · obtain ⟨a1, i, a4, a5, a6⟩ := hT
    exact ⟨by rw [hf 0 (by decide)]; exact a1, i, a4, by rw [hf 1 (by decide)]; exact a5, isE.mono hk a4 a6⟩
  · obtain ⟨a1, i, a4, a5, a6⟩ := hT
    exact ⟨by rw [hf 0 (by decide)]; exact a1, i, a4, by rw [hf 1 (by decide)]; exact a5, isE.mono hk a4 a6⟩
  · rw [hf 0 (by decide)]; exact hT
  · obtain ⟨a1, a2, a3⟩ := hT
    exact ⟨by rw [hf 0 (by decide)]; exact a1, by rw [hf 1 (by decide)]; exact a2, a3⟩
  · obtain ⟨a1, a2, a3, a4, a5⟩ := hT
    exact ⟨by rw [hf 0 (by decide)]; exact a1, by rw [hf 1 (by decide)]; exact a2, a3, by rw [hf 2 (by decide)]; exact a4, a5⟩
  · rw [hf 0 (by decide)]; exact hT
  · obtain ⟨a1, ⟨i, a4, a5, a6⟩, a7, a8⟩ := hT
    exact ⟨by rw [hf 0 (by decide)]; exact a1, ⟨i, a4, by rw [hf 1 (by decide)]; exact a5, isE.mono hk a4 a6⟩, by rw [hf 2 (by decide)]; exact isB.mono hk _ k _ (Nat.le_refl k) a7, by rw [hf 3 (by decide)]; exact isB.mono hk _ k _ (Nat.le_refl k) a8⟩
  · exact hT.elim
