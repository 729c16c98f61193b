set_option maxRecDepth 100000
/-! ===== worlds that are well formed ===== -/
def KdI (kd : Kd) : Prop := ((kF kd).length ≤ 8 ∧ (kS kd).length ≤ 4 ∧ (kX kd).length ≤ 8) ∧ (∀ f, f ∈ kF kd → ∃ n, n < 40 ∧ f.1 = nI n) ∧ (∀ f, f ∈ kS kd → ∃ n, n < 40 ∧ f.1 = nI n) ∧ (∀ f, f ∈ kX kd → (∃ n, n < 40 ∧ f.1 = nI n) ∧ okB f.2 12) ∧ ((kF kd).map (·.1)).Nodup ∧ ((kS kd).map (·.1)).Nodup ∧ ∀ n, (ixF kd n).isSome = true → (ixS kd n).isSome = true → False
/-- no name twice on a way up -/
def clearL (L : List Kd) : Prop := ∀ (k : Nat) (kd : Kd) (n : Int32), L[k]? = some kd → hasO n kd = true → upK L (hasO n) 12 (kA kd) = none
def WdI (L : List Kd) : Prop := L.length ≤ 12 ∧ acL L ∧ (∀ (i j : Nat) (ki kj : Kd), L[i]? = some ki → L[j]? = some kj → kN ki = kN kj → i = j) ∧ (∀ (k : Nat) (kd : Kd), L[k]? = some kd → (∃ n, n < 40 ∧ kN kd = nI n) ∧ (∀ u, kA kd = some u → u < L.length) ∧ KdI kd) ∧ clearL L
theorem ixf_isSome {α : Type} {key : α → Int32} {x : Int32} {l : List α} : (ixf key x l).isSome = true ↔ ∃ a, a ∈ l ∧ key a = x := by
  constructor
  · intro h
    cases h9 : ixf key x l with
    | none => rw [h9] at h; cases h
    | some i =>
      obtain ⟨a, a1, a2⟩ := ixf_some h9
      exact ⟨a, List.mem_of_getElem? a1, a2⟩
  · intro ⟨a, a1, a2⟩
    cases h9 : ixf key x l with
    | none => exact absurd a2 (ixf_none h9 a a1)
    | some i => rfl
/-- ways up below the place that changes -/
theorem upK_low {L L' : List Kd} {k : Nat} (hdec : decL L) (hsame : ∀ j, j < k → L'[j]? = L[j]?) {q : Kd → Bool} : ∀ (f : Nat) (o : Option Nat), (∀ u, o = some u → u < k) → upK L' q f o = upK L q f o
  | f, none, _ => by cases f <;> rfl
  | 0, some u, _ => rfl
  | f + 1, some u, h => by
    have hu := h u rfl
    unfold upK
    rw [hsame u hu]
    cases hk : L[u]? with
    | none => rfl
    | some kd =>
      dsimp only
      rw [upK_low hdec hsame f (kA kd) fun u' hu' => by have := hdec u kd hk u' hu'; omega]
/-- the invariant of a pond that is read -/
def PdI (L : List Kd) : Prop := L.length ≤ 12 ∧ decL L ∧ (∀ (i j : Nat) (ki kj : Kd), L[i]? = some ki → L[j]? = some kj → kN ki = kN kj → i = j) ∧ (∀ (k : Nat) (kd : Kd), L[k]? = some kd → ((∃ n, n < 40 ∧ kN kd = nI n) ∧ kC kd = true ∧ kG kd = 0 ∧ kO kd = none) ∧ KdI kd) ∧ clearL L
theorem hasO_addM {kd : Kd} {m : Mem} {n : Int32} (hm : m.1 < 3) : hasO n (addM kd m) = true → hasO n kd = true ∨ (n = m.2.1 ∧ ¬ m.1 = 2) := by
  intro h
  unfold hasO at h ⊢
  rw [Bool.or_eq_true] at h
  rw [Bool.or_eq_true]
  have hkF : ∀ f, f ∈ kF (addM kd m) → f ∈ kF kd ∨ (f.1 = m.2.1 ∧ ¬ m.1 = 2) := fun f hf => by
    unfold addM at hf
    by_cases h2 : m.1 = 2
    · rw [if_pos h2] at hf; exact Or.inl hf
    · rw [if_neg h2] at hf
      by_cases h1 : m.1 = 1
      · rw [if_pos h1] at hf; exact Or.inl hf
      · rw [if_neg h1] at hf
        rcases List.mem_append.mp hf with hf | hf
        · exact Or.inl hf
        · rw [List.mem_singleton.mp hf]; exact Or.inr ⟨rfl, h2⟩
  have hkS : ∀ f, f ∈ kS (addM kd m) → f ∈ kS kd ∨ (f.1 = m.2.1 ∧ ¬ m.1 = 2) := fun f hf => by
    unfold addM at hf
    by_cases h2 : m.1 = 2
    · rw [if_pos h2] at hf; exact Or.inl hf
    · rw [if_neg h2] at hf
      by_cases h1 : m.1 = 1
      · rw [if_pos h1] at hf
        rcases List.mem_append.mp hf with hf | hf
        · exact Or.inl hf
        · rw [List.mem_singleton.mp hf]; exact Or.inr ⟨rfl, h2⟩
      · rw [if_neg h1] at hf; exact Or.inl hf
  rcases h with h | h
  · obtain ⟨f, f1, f2⟩ := ixf_isSome.mp h
    rcases hkF f f1 with h9 | ⟨h9, h8⟩
    · exact Or.inl (Or.inl (ixf_isSome.mpr ⟨f, h9, f2⟩))
    · exact Or.inr ⟨f2.symm.trans h9, h8⟩
  · obtain ⟨f, f1, f2⟩ := ixf_isSome.mp h
    rcases hkS f f1 with h9 | ⟨h9, h8⟩
    · exact Or.inl (Or.inr (ixf_isSome.mpr ⟨f, h9, f2⟩))
    · exact Or.inr ⟨f2.symm.trans h9, h8⟩
/-- a member comes to a kind that has not its name -/
theorem KdI.add {kd : Kd} {m : Mem} (h : KdI kd) (hf : fullM kd m.1 = false ∨ (m.1 = 2 ∧ ¬ ixA kd m.2.1 = none)) (hn : ∃ n, n < 40 ∧ m.2.1 = nI n) (hb : okB m.2.2.2 12) (hno : ¬ m.1 = 2 → hasO m.2.1 kd = false) : KdI (addM kd m) := by
  obtain ⟨⟨l1, l2, l3⟩, a1, a2, a3, a4, a5, a6⟩ := h
  have hnoF : ¬ m.1 = 2 → ∀ f, f ∈ kF kd → ¬ f.1 = m.2.1 := fun h2 f hf he => by
    have := hno h2
    unfold hasO at this
    rw [Bool.or_eq_false_iff] at this
    rw [ixf_isSome.mpr ⟨f, hf, he⟩] at this
    cases this.1
  have hnoS : ¬ m.1 = 2 → ∀ f, f ∈ kS kd → ¬ f.1 = m.2.1 := fun h2 f hf he => by
    have := hno h2
    unfold hasO at this
    rw [Bool.or_eq_false_iff] at this
    rw [ixf_isSome.mpr ⟨f, hf, he⟩] at this
    cases this.2
  unfold addM
  by_cases h2 : m.1 = 2
  · rw [if_pos h2]
    cases hx : ixA kd m.2.1 with
    | some i =>
      refine ⟨⟨l1, l2, by show ((kX kd).set i _).length ≤ 8; rw [List.length_set]; exact l3⟩, a1, a2, fun f hf9 => ?_, a4, a5, a6⟩
      rcases List.mem_or_eq_of_mem_set hf9 with h9 | h9
      · exact a3 f h9
      · rw [h9]; exact ⟨hn, hb⟩
    | none =>
      have hl : (kX kd).length < 8 := by
        rcases hf with hf | ⟨_, hf⟩
        · unfold fullM at hf
          rw [if_pos h2] at hf
          have : ¬ (kX kd).length = 8 := by simpa using hf
          omega
        · exact absurd hx hf
      refine ⟨⟨l1, l2, by show (kX kd ++ [_]).length ≤ 8; rw [List.length_append]; show (kX kd).length + 1 ≤ 8; omega⟩, a1, a2, fun f hf9 => ?_, a4, a5, a6⟩
      rcases List.mem_append.mp hf9 with h9 | h9
      · exact a3 f h9
      · rw [List.mem_singleton.mp h9]; exact ⟨hn, hb⟩
  · rw [if_neg h2]
    have hf' : fullM kd m.1 = false := hf.resolve_right fun h9 => h2 h9.1
    unfold fullM at hf'
    rw [if_neg h2] at hf'
    by_cases h1 : m.1 = 1
    · rw [if_pos h1]
      rw [if_pos h1] at hf'
      have hl : ¬ (kS kd).length = 4 := by simpa using hf'
      refine ⟨⟨l1, by show (kS kd ++ [_]).length ≤ 4; rw [List.length_append]; show (kS kd).length + 1 ≤ 4; omega, l3⟩, a1, fun f hf9 => ?_, a3, a4, ?_, fun n n1 n2 => ?_⟩
      · rcases List.mem_append.mp hf9 with h9 | h9
        · exact a2 f h9
        · rw [List.mem_singleton.mp h9]; exact hn
      · show ((kS kd ++ [(m.2.1, m.2.2.1)]).map (·.1)).Nodup
        rw [List.map_append, List.nodup_append]
        refine ⟨a5, by simp, fun x hx y hy hxy => ?_⟩
        obtain ⟨f, f1, f2⟩ := List.mem_map.mp hx
        have hy' : y = m.2.1 := by simpa using hy
        exact hnoS h2 f f1 (f2.trans (hxy.trans hy'))
      · obtain ⟨f, f1, f2⟩ := ixf_isSome.mp n2
        rcases List.mem_append.mp f1 with h9 | h9
        · exact a6 n n1 (ixf_isSome.mpr ⟨f, h9, f2⟩)
        · rw [List.mem_singleton.mp h9] at f2
          obtain ⟨f', g1, g2⟩ := ixf_isSome.mp n1
          exact hnoF h2 f' g1 (g2.trans f2.symm)
    · rw [if_neg h1]
      rw [if_neg h1] at hf'
      have hl : ¬ (kF kd).length = 8 := by simpa using hf'
      refine ⟨⟨by show (kF kd ++ [_]).length ≤ 8; rw [List.length_append]; show (kF kd).length + 1 ≤ 8; omega, l2, l3⟩, fun f hf9 => ?_, a2, a3, ?_, a5, fun n n1 n2 => ?_⟩
      · rcases List.mem_append.mp hf9 with h9 | h9
        · exact a1 f h9
        · rw [List.mem_singleton.mp h9]; exact hn
      · show ((kF kd ++ [(m.2.1, m.2.2.1, -1)]).map (fun f : Int32 × Int32 × Int32 => f.1)).Nodup
        rw [List.map_append, List.nodup_append]
        refine ⟨a4, by simp, fun x hx y hy hxy => ?_⟩
        obtain ⟨f, f1, f2⟩ := List.mem_map.mp hx
        have hy' : y = m.2.1 := by simpa using hy
        exact hnoF h2 f f1 (f2.trans (hxy.trans hy'))
      · obtain ⟨f, f1, f2⟩ := ixf_isSome.mp n1
        rcases List.mem_append.mp f1 with h9 | h9
        · exact a6 n (ixf_isSome.mpr ⟨f, h9, f2⟩) n2
        · rw [List.mem_singleton.mp h9] at f2
          obtain ⟨f', g1, g2⟩ := ixf_isSome.mp n2
          exact hnoS h2 f' g1 (g2.trans f2.symm)
theorem PdI.add {L : List Kd} {k : Nat} {kd : Kd} {m : Mem} (h : PdI L) (hkl : k + 1 = L.length) (hk : L[k]? = some kd) (hc : chkP L k m.1 m.2.1 = none) (hn : ∃ n, n < 40 ∧ m.2.1 = nI n) (hm : m.1 < 3) (hb : okB m.2.2.2 12) : PdI (addK L k m) := by
  obtain ⟨a1, a2, a3, a4, a5⟩ := h
  have hchk : (if m.1 = 2 then (ixA kd m.2.1).isSome else hasO m.2.1 kd || (upK L (hasO m.2.1) 12 (kA kd)).isSome) = false ∧ fullM kd m.1 = false := by
    unfold chkP at hc
    rw [hk] at hc
    dsimp only at hc
    cases h9 : (if m.1 = 2 then (ixA kd m.2.1).isSome else hasO m.2.1 kd || (upK L (hasO m.2.1) 12 (kA kd)).isSome) with
    | true => rw [h9, if_pos rfl] at hc; cases hc
    | false =>
      rw [h9, if_neg (by decide)] at hc
      cases h8 : fullM kd m.1 with
      | true => rw [h8, if_pos rfl] at hc; cases hc
      | false => exact ⟨rfl, rfl⟩
  have hno : ¬ m.1 = 2 → hasO m.2.1 kd = false ∧ upK L (hasO m.2.1) 12 (kA kd) = none := fun h2 => by
    have := hchk.1
    rw [if_neg h2, Bool.or_eq_false_iff] at this
    refine ⟨this.1, ?_⟩
    cases h9 : upK L (hasO m.2.1) 12 (kA kd) with
    | none => rfl
    | some u => rw [h9] at this; cases this.2
  have hg := fun j => addK_get (m := m) hk (j := j)
  have hlow : ∀ j, j < k → (addK L k m)[j]? = L[j]? := fun j hj => by rw [hg j, if_neg (by omega)]
  refine ⟨by rw [addK_len]; exact a1, a2.addM, fun i j ki kj hi hj he => ?_, fun j kj hj => ?_, fun j kj n hj hon => ?_⟩
  · have hN : ∀ i ki, (addK L k m)[i]? = some ki → ∃ k0, L[i]? = some k0 ∧ kN ki = kN k0 := fun i ki hi => by
      rw [hg i] at hi
      by_cases e : i = k
      · rw [if_pos e] at hi
        cases hi
        exact ⟨kd, by rw [e]; exact hk, addM_N⟩
      · rw [if_neg e] at hi
        exact ⟨ki, hi, rfl⟩
    obtain ⟨k1, b1, b2⟩ := hN i ki hi
    obtain ⟨k2, c1, c2⟩ := hN j kj hj
    exact a3 i j k1 k2 b1 c1 (by rw [← b2, ← c2]; exact he)
  · rw [hg j] at hj
    by_cases e : j = k
    · rw [if_pos e] at hj
      cases hj
      obtain ⟨b1, b2⟩ := a4 k kd hk
      have hh : (addM kd m).1 = kd.1 := addM_h
      refine ⟨by rw [kN, kC, kG, kO, hh]; exact b1, b2.add (Or.inl hchk.2) hn hb fun h2 => (hno h2).1⟩
    · rw [if_neg e] at hj
      exact a4 j kj hj
  · have hjl := get_lt hj
    rw [addK_len] at hjl
    rw [hg j] at hj
    by_cases e : j = k
    · rw [if_pos e] at hj
      cases hj
      rw [addM_A, upK_low a2 hlow 12 (kA kd) fun u hu => a2 k kd hk u hu]
      rcases hasO_addM hm hon with h9 | ⟨h9, h8⟩
      · exact a5 k kd n hk h9
      · rw [h9]; exact (hno h8).2
    · rw [if_neg e] at hj
      rw [upK_low a2 hlow 12 (kA kj) fun u hu => by have := a2 j kj hj u hu; omega]
      exact a5 j kj n hj hon
theorem PdI.new {L : List Kd} {n : Nat} {ab : Option Nat} (h : PdI L) (hn : n < 40) (hix : ixK L (nI n) = none) (hl : L.length < 12) (hab : ∀ u, ab = some u → u < L.length) : PdI (L ++ [newK (nI n) ab]) := by
  obtain ⟨a1, a2, a3, a4, a5⟩ := h
  have hno : ∀ (i : Nat) (ki : Kd), L[i]? = some ki → ¬ kN ki = nI n := fun i ki hi => ixf_none hix ki (List.mem_of_getElem? hi)
  have hlow : ∀ j, j < L.length → (L ++ [newK (nI n) ab])[j]? = L[j]? := fun j hj => List.getElem?_append_left hj
  refine ⟨by rw [List.length_append]; show L.length + 1 ≤ 12; omega, a2.app hab, fun i j ki kj hi hj he => ?_, fun j kj hj => ?_, fun j kj n' hj hon => ?_⟩
  · rcases getApp hi with ⟨b1, b2⟩ | ⟨b1, b2⟩
    · rcases getApp hj with ⟨c1, c2⟩ | ⟨c1, c2⟩
      · exact a3 i j ki kj b2 c2 he
      · rw [c2] at he
        exact absurd he (hno i ki b2)
    · rcases getApp hj with ⟨c1, c2⟩ | ⟨c1, c2⟩
      · rw [b2] at he
        exact absurd he.symm (hno j kj c2)
      · omega
  · rcases getApp hj with ⟨b1, b2⟩ | ⟨b1, b2⟩
    · exact a4 j kj b2
    · rw [b2]
      refine ⟨⟨⟨n, hn, rfl⟩, rfl, rfl, rfl⟩, ⟨Nat.zero_le _, Nat.zero_le _, Nat.zero_le _⟩, fun f hf => (List.not_mem_nil hf).elim, fun f hf => (List.not_mem_nil hf).elim, fun f hf => (List.not_mem_nil hf).elim, List.nodup_nil, List.nodup_nil, fun n' h1 _ => by cases h1⟩
  · rcases getApp hj with ⟨b1, b2⟩ | ⟨b1, b2⟩
    · rw [upK_low a2 hlow 12 (kA kj) fun u hu => by have := a2 j kj b2 u hu; omega]
      exact a5 j kj n' b2 hon
    · rw [b2] at hon
      cases hon
/-- a pond that was read is well formed -/
theorem ps_pond_is {T : Nat → Int32} (he : ∀ p, 1000 ≤ p → T p = -1) {L : List Kd} {p' : Nat} {N N' : ps_N} (hN : N.1 ≤ 40) (h : ps_pond T 1001 [] 0 N = ps_ok L p' N') : PdI L ∧ N'.1 ≤ 40 := ps_pond_inv he (I := PdI) (fun L k kd m hI hkl hk hc hn hm hb => hI.add hkl hk hc hn hm hb) (fun L n ab hI hn hix hl hab => hI.new hn hix hl hab) 1001 [] 0 N (by simp) (fun L hI => hI.1) h (by omega) hN ⟨by simp, fun k kd h => by simp at h, fun i j ki kj h => by simp at h, fun k kd h => by simp at h, fun k kd n h => by simp at h⟩
theorem PdI.WdI {L : List Kd} (h : PdI L) : WdI L := ⟨h.1, h.2.1.acL h.1, h.2.2.1, fun k kd hk => ⟨(h.2.2.2.1 k kd hk).1.1, fun u hu => by have := h.2.1 k kd hk u hu; have := get_lt hk; omega, (h.2.2.2.1 k kd hk).2⟩, h.2.2.2.2⟩
