set_option maxRecDepth 100000
/-! ===== worlds written ===== -/
theorem app_get {α : Type} {l : List α} {b a : α} {i : Nat} (h : (l ++ [b])[i]? = some a) : (l[i]? = some a ∧ i < l.length) ∨ (i = l.length ∧ a = b) := by
  by_cases hi : i < l.length
  · rw [List.getElem?_append_left hi] at h
    exact Or.inl ⟨h, hi⟩
  · rw [List.getElem?_append_right (by omega)] at h
    have h0 : i - l.length = 0 := by
      have := (List.getElem?_eq_some_iff.mp h).1
      simp at this
      omega
    rw [h0] at h
    simp at h
    exact Or.inr ⟨by omega, h.symm⟩
theorem get_lt {α : Type} {l : List α} {a : α} {i : Nat} (h : l[i]? = some a) : i < l.length := (List.getElem?_eq_some_iff.mp h).1
theorem set_get {α : Type} {l : List α} {b a : α} {i k : Nat} (h : (l.set k b)[i]? = some a) : (i = k ∧ a = b) ∨ (i ≠ k ∧ l[i]? = some a) := by
  by_cases hi : i = k
  · subst hi
    have h1 := get_lt h
    simp at h1
    rw [List.getElem?_set_self (by omega)] at h
    cases h
    exact Or.inl ⟨rfl, rfl⟩
  · rw [List.getElem?_set_ne (fun e => hi e.symm)] at h
    exact Or.inr ⟨hi, h⟩
theorem wd_same {μ : mm_S} {w k f : Nat} {v : Int32} : wd (mm_sA μ 23 (769 * w + 1 + 64 * k + f) v) w k = upd (wd μ w k) f v := by
  funext j
  by_cases hj : j = f
  · subst hj
    rw [pk_us]
    exact mA_s
  · rw [pk_un hj]
    exact mA_i (by omega)
theorem ix_ne {w k f w' k' f' : Nat} (h : w' ≠ w ∨ k' ≠ k) (hf : f < 64) (hf' : f' < 64) (hk : k < 12) (hk' : k' < 12) : 769 * w' + 1 + 64 * k' + f' ≠ 769 * w + 1 + 64 * k + f := by
  by_cases hw : w' = w
  · subst hw
    have hk2 : k' ≠ k := h.resolve_left fun h => h rfl
    omega
  · rcases Nat.lt_or_gt_of_ne hw with h1 | h1
    · have : 769 * w' + 769 ≤ 769 * w := by omega
      omega
    · have : 769 * w + 769 ≤ 769 * w' := by omega
      omega
theorem ix_nm {w k f w' : Nat} (hf : f < 64) (hk : k < 12) : 769 * w' ≠ 769 * w + 1 + 64 * k + f := by
  rcases Nat.lt_or_ge w w' with h1 | h1
  · have : 769 * w + 769 ≤ 769 * w' := by omega
    omega
  · have : 769 * w' ≤ 769 * w := by omega
    omega
theorem wd_other {μ : mm_S} {w k f w' k' f' : Nat} {v : Int32} (h : w' ≠ w ∨ k' ≠ k) (hf : f < 64) (hf' : f' < 64) (hk : k < 12) (hk' : k' < 12) : wd (mm_sA μ 23 (769 * w + 1 + 64 * k + f) v) w' k' f' = wd μ w' k' f' := mA_i (ix_ne h hf hf' hk hk')
theorem wm_other {μ : mm_S} {w k f w' : Nat} {v : Int32} (hf : f < 64) (hk : k < 12) : wm (mm_sA μ 23 (769 * w + 1 + 64 * k + f) v) w' = wm μ w' := mA_i (ix_nm hf hk)
/-- only the row of kind k in the world w changes -/
def ro (w k : Nat) (μ μ' : mm_S) : Prop := fr [23] μ μ' ∧ ∀ q, ¬ (769 * w + 1 + 64 * k ≤ q ∧ q < 769 * w + 1 + 64 * k + 64) → mA μ' 23 q = mA μ 23 q
theorem ro.refl {w k : Nat} {μ : mm_S} : ro w k μ μ := ⟨fr.refl, fun _ _ => rfl⟩
theorem ro.trans {w k : Nat} {μ μ1 μ2 : mm_S} (h1 : ro w k μ μ1) (h2 : ro w k μ1 μ2) : ro w k μ μ2 := ⟨h1.1.trans h2.1, fun q hq => (h2.2 q hq).trans (h1.2 q hq)⟩
theorem ro.set {w k f : Nat} {v : Int32} {μ μ1 : mm_S} (h : ro w k μ μ1) (hf : f < 64) : ro w k μ (mm_sA μ1 23 (769 * w + 1 + 64 * k + f) v) := ⟨h.1.sA (by decide), fun q hq => (mA_i (by omega)).trans (h.2 q hq)⟩
theorem ro.wd {w k w' k' : Nat} {μ μ' : mm_S} (h : ro w k μ μ') (hk : k < 12) (hk' : k' < 12) (ho : w' ≠ w ∨ k' ≠ k) {f : Nat} (hf : f < 64) : wd μ' w' k' f = wd μ w' k' f := h.2 _ fun h9 => by
  have := ix_ne (w := w) (k := k) (f := 769 * w' + 1 + 64 * k' + f - (769 * w + 1 + 64 * k)) ho (by omega) hf hk hk'
  omega
theorem ro.wm {w k w' : Nat} {μ μ' : mm_S} (h : ro w k μ μ') (hk : k < 12) : wm μ' w' = wm μ w' := h.2 _ fun h9 => by
  have := ix_nm (w := w) (k := k) (f := 769 * w' - (769 * w + 1 + 64 * k)) (w' := w') (by omega) hk
  omega
theorem isKr.ext {bd bd' : Term → Int32 → Prop} {r r' : Nat → Int32} {kd : Kd} (h : isKr bd r kd) (hr : ∀ f, f < 64 → r' f = r f) (hb : ∀ t x, bd t x → bd' t x) : isKr bd' r' kd := by
  obtain ⟨a0, a1, a2, a3, a4, ⟨b1, b2, b3⟩, ⟨c1, c2, c3⟩, d1, d2, d3⟩ := h
  refine ⟨(hr 0 (by omega)).trans a0, (hr 1 (by omega)).trans a1, (hr 2 (by omega)).trans a2, (hr 3 (by omega)).trans a3, (hr 4 (by omega)).trans a4, ⟨(hr 5 (by omega)).trans b1, b2, fun i f hi => ?_⟩, ⟨(hr 30 (by omega)).trans c1, c2, fun i f hi => ?_⟩, (hr 39 (by omega)).trans d1, d2, fun i f hi => ?_⟩
  · have := get_lt hi
    rw [hr _ (by omega), hr _ (by omega), hr _ (by omega)]
    exact b3 i f hi
  · have := get_lt hi
    rw [hr _ (by omega), hr _ (by omega)]
    exact c3 i f hi
  · have := get_lt hi
    rw [hr _ (by omega), hr _ (by omega)]
    exact ⟨(d3 i f hi).1, hb _ _ (d3 i f hi).2⟩
/-- the same world, its blocks said otherwise -/
theorem isW.ext {bd bd' : Term → Int32 → Prop} {μ μ' : mm_S} {w w' : Nat} {L : List Kd} (h : isW bd μ w L) (hr : ∀ f, f < 769 → mA μ' 23 (769 * w' + f) = mA μ 23 (769 * w + f)) (hb : ∀ t x, bd t x → bd' t x) : isW bd' μ' w' L := by
  obtain ⟨a1, a2, a3⟩ := h
  refine ⟨(hr 0 (by omega)).trans a1, a2, fun k kd hk => ?_⟩
  have hlt := get_lt hk
  refine (a3 k kd hk).ext (fun f hf => ?_) hb
  have := hr (1 + 64 * k + f) (by omega)
  rw [show 769 * w' + (1 + 64 * k + f) = 769 * w' + 1 + 64 * k + f by omega, show 769 * w + (1 + 64 * k + f) = 769 * w + 1 + 64 * k + f by omega] at this
  exact this
theorem isW.row {bd : Term → Int32 → Prop} {μ μ' : mm_S} {w k : Nat} {L : List Kd} {kd' : Kd} (h : isW bd μ w L) (hk : k < L.length) (hr : ro w k μ μ') (hK : isKd bd μ' w k kd') : isW bd μ' w (L.set k kd') := by
  obtain ⟨a1, a2, a3⟩ := h
  refine ⟨?_, by simpa using a2, fun j kd hj => ?_⟩
  · rw [hr.wm (by omega), List.length_set]; exact a1
  · rcases set_get hj with ⟨e1, e2⟩ | ⟨e1, e2⟩
    · rw [e1, e2]; exact hK
    · have := get_lt e2
      exact (a3 j kd e2).ext (fun f hf => hr.wd (by omega) (by omega) (Or.inr e1) hf) fun _ _ h => h
/-- another world's row -/
theorem isW.other {bd : Term → Int32 → Prop} {μ μ' : mm_S} {w w' k : Nat} {L : List Kd} (h : isW bd μ w' L) (hk : k < 12) (hw : w' ≠ w) (hr : ro w k μ μ') : isW bd μ' w' L :=
  ⟨(hr.wm hk).trans h.1, h.2.1, fun j kd hj => (h.2.2 j kd hj).ext (fun _ hf => hr.wd hk (h.lt hj) (Or.inl hw) hf) fun _ _ h => h⟩
/-! members that come to a kind -/
/-- (sort 0 a field, 1 a static, 2 an act; name, value, block) -/
abbrev Mem : Type := Nat × Int32 × Int32 × Term
def addM (kd : Kd) (m : Mem) : Kd :=
  if m.1 = 2 then (kd.1, kF kd, kS kd, match ixA kd m.2.1 with
    | some i => (kX kd).set i (m.2.1, m.2.2.2)
    | none => kX kd ++ [(m.2.1, m.2.2.2)])
  else if m.1 = 1 then (kd.1, kF kd, kS kd ++ [(m.2.1, m.2.2.1)], kX kd)
  else (kd.1, kF kd ++ [(m.2.1, m.2.2.1, -1)], kS kd, kX kd)
/-- whether there is no room for one of a sort -/
def fullM (kd : Kd) (sort : Nat) : Bool := if sort = 2 then (kX kd).length == 8 else if sort = 1 then (kS kd).length == 4 else (kF kd).length == 8
section
variable {bd : Term → Int32 → Prop} {r : Nat → Int32} {kd : Kd}
theorem isKr.addF (h : isKr bd r kd) {n v : Int32} (hl : ¬ (kF kd).length = 8) : isKr bd (upd (upd (upd (upd r 5 (nI ((kF kd).length + 1))) (6 + (kF kd).length) n) (14 + (kF kd).length) v) (22 + (kF kd).length) (-1)) (kd.1, kF kd ++ [(n, v, -1)], kS kd, kX kd) := by
  obtain ⟨a0, a1, a2, a3, a4, ⟨b1, b2, b3⟩, ⟨c1, c2, c3⟩, d1, d2, d3⟩ := h
  have e : ∀ q, ¬ q = 5 → ¬ (6 ≤ q ∧ q < 30) → (upd (upd (upd (upd r 5 (nI ((kF kd).length + 1))) (6 + (kF kd).length) n) (14 + (kF kd).length) v) (22 + (kF kd).length) (-1)) q = r q := fun q h1 h2 => by
    rw [pk_un (by omega), pk_un (by omega), pk_un (by omega), pk_un (by omega)]
  refine ⟨(e 0 (by omega) (by omega)).trans a0, (e 1 (by omega) (by omega)).trans a1, (e 2 (by omega) (by omega)).trans a2, (e 3 (by omega) (by omega)).trans a3, (e 4 (by omega) (by omega)).trans a4, ⟨?_, ?_, fun i f hi => ?_⟩, ⟨(e 30 (by omega) (by omega)).trans c1, c2, fun i f hi => ?_⟩, (e 39 (by omega) (by omega)).trans d1, d2, fun i f hi => ?_⟩
  · rw [pk_un (by omega), pk_un (by omega), pk_un (by omega), pk_us]
    show _ = nI ((kF kd) ++ [(n, v, -1)]).length
    rw [List.length_append]; rfl
  · show ((kF kd) ++ [(n, v, -1)]).length ≤ 8
    rw [List.length_append]
    show (kF kd).length + 1 ≤ 8
    omega
  · rcases app_get hi with ⟨h1, h2⟩ | ⟨h1, h2⟩
    · obtain ⟨f1, f2, f3⟩ := b3 i f h1
      refine ⟨?_, ?_, ?_⟩
      · rw [pk_un (by omega), pk_un (by omega), pk_un (by omega), pk_un (by omega)]; exact f1
      · rw [pk_un (by omega), pk_un (by omega), pk_un (by omega), pk_un (by omega)]; exact f2
      · rw [pk_un (by omega), pk_un (by omega), pk_un (by omega), pk_un (by omega)]; exact f3
    · subst h1; subst h2
      refine ⟨?_, ?_, ?_⟩
      · rw [pk_un (by omega), pk_un (by omega), pk_us]
      · rw [pk_un (by omega), pk_us]
      · rw [pk_us]
  · have : i < (kS kd).length := get_lt hi
    have h9 := c3 i f hi
    rw [e _ (by omega) (by omega), e _ (by omega) (by omega)]
    exact h9
  · have : i < (kX kd).length := get_lt hi
    have h9 := d3 i f hi
    rw [e _ (by omega) (by omega), e _ (by omega) (by omega)]
    exact h9
theorem isKr.addS (h : isKr bd r kd) {n v : Int32} (hl : ¬ (kS kd).length = 4) : isKr bd (upd (upd (upd r 30 (nI ((kS kd).length + 1))) (31 + (kS kd).length) n) (35 + (kS kd).length) v) (kd.1, kF kd, kS kd ++ [(n, v)], kX kd) := by
  obtain ⟨a0, a1, a2, a3, a4, ⟨b1, b2, b3⟩, ⟨c1, c2, c3⟩, d1, d2, d3⟩ := h
  have e : ∀ q, ¬ (30 ≤ q ∧ q < 39) → (upd (upd (upd r 30 (nI ((kS kd).length + 1))) (31 + (kS kd).length) n) (35 + (kS kd).length) v) q = r q := fun q h2 => by
    rw [pk_un (by omega), pk_un (by omega), pk_un (by omega)]
  refine ⟨(e 0 (by omega)).trans a0, (e 1 (by omega)).trans a1, (e 2 (by omega)).trans a2, (e 3 (by omega)).trans a3, (e 4 (by omega)).trans a4, ⟨(e 5 (by omega)).trans b1, b2, fun i f hi => ?_⟩, ⟨?_, ?_, fun i f hi => ?_⟩, (e 39 (by omega)).trans d1, d2, fun i f hi => ?_⟩
  · have : i < (kF kd).length := get_lt hi
    have h9 := b3 i f hi
    rw [e _ (by omega), e _ (by omega), e _ (by omega)]
    exact h9
  · rw [pk_un (by omega), pk_un (by omega), pk_us]
    show _ = nI ((kS kd) ++ [(n, v)]).length
    rw [List.length_append]; rfl
  · show ((kS kd) ++ [(n, v)]).length ≤ 4
    rw [List.length_append]
    show (kS kd).length + 1 ≤ 4
    omega
  · rcases app_get hi with ⟨h1, h2⟩ | ⟨h1, h2⟩
    · obtain ⟨f1, f2⟩ := c3 i f h1
      refine ⟨?_, ?_⟩
      · rw [pk_un (by omega), pk_un (by omega), pk_un (by omega)]; exact f1
      · rw [pk_un (by omega), pk_un (by omega), pk_un (by omega)]; exact f2
    · subst h1; subst h2
      refine ⟨?_, ?_⟩
      · rw [pk_un (by omega), pk_us]
      · rw [pk_us]
  · have : i < (kX kd).length := get_lt hi
    have h9 := d3 i f hi
    rw [e _ (by omega), e _ (by omega)]
    exact h9
theorem isKr.addA (h : isKr bd r kd) {n x : Int32} {t : Term} (hl : ¬ (kX kd).length = 8) (hb : bd t x) : isKr bd (upd (upd (upd r 39 (nI ((kX kd).length + 1))) (40 + (kX kd).length) n) (48 + (kX kd).length) x) (kd.1, kF kd, kS kd, kX kd ++ [(n, t)]) := by
  obtain ⟨a0, a1, a2, a3, a4, ⟨b1, b2, b3⟩, ⟨c1, c2, c3⟩, d1, d2, d3⟩ := h
  have e : ∀ q, ¬ (39 ≤ q ∧ q < 56) → (upd (upd (upd r 39 (nI ((kX kd).length + 1))) (40 + (kX kd).length) n) (48 + (kX kd).length) x) q = r q := fun q h2 => by
    rw [pk_un (by omega), pk_un (by omega), pk_un (by omega)]
  refine ⟨(e 0 (by omega)).trans a0, (e 1 (by omega)).trans a1, (e 2 (by omega)).trans a2, (e 3 (by omega)).trans a3, (e 4 (by omega)).trans a4, ⟨(e 5 (by omega)).trans b1, b2, fun i f hi => ?_⟩, ⟨(e 30 (by omega)).trans c1, c2, fun i f hi => ?_⟩, ?_, ?_, fun i f hi => ?_⟩
  · have : i < (kF kd).length := get_lt hi
    have h9 := b3 i f hi
    rw [e _ (by omega), e _ (by omega), e _ (by omega)]
    exact h9
  · have : i < (kS kd).length := get_lt hi
    have h9 := c3 i f hi
    rw [e _ (by omega), e _ (by omega)]
    exact h9
  · rw [pk_un (by omega), pk_un (by omega), pk_us]
    show _ = nI ((kX kd) ++ [(n, t)]).length
    rw [List.length_append]; rfl
  · show ((kX kd) ++ [(n, t)]).length ≤ 8
    rw [List.length_append]
    show (kX kd).length + 1 ≤ 8
    omega
  · rcases app_get hi with ⟨h1, h2⟩ | ⟨h1, h2⟩
    · obtain ⟨f1, f2⟩ := d3 i f h1
      refine ⟨?_, ?_⟩
      · rw [pk_un (by omega), pk_un (by omega), pk_un (by omega)]; exact f1
      · rw [pk_un (by omega), pk_un (by omega), pk_un (by omega)]; exact f2
    · subst h1; subst h2
      refine ⟨?_, ?_⟩
      · rw [pk_un (by omega), pk_us]
      · rw [pk_us]; exact hb
theorem isKr.setA (h : isKr bd r kd) {n x : Int32} {t : Term} {k : Nat} (hk : k < (kX kd).length) (hb : bd t x) : isKr bd (upd (upd r (40 + k) n) (48 + k) x) (kd.1, kF kd, kS kd, (kX kd).set k (n, t)) := by
  obtain ⟨a0, a1, a2, a3, a4, ⟨b1, b2, b3⟩, ⟨c1, c2, c3⟩, d1, d2, d3⟩ := h
  have e : ∀ q, ¬ (40 ≤ q ∧ q < 56) → (upd (upd r (40 + k) n) (48 + k) x) q = r q := fun q h2 => by
    rw [pk_un (by omega), pk_un (by omega)]
  refine ⟨(e 0 (by omega)).trans a0, (e 1 (by omega)).trans a1, (e 2 (by omega)).trans a2, (e 3 (by omega)).trans a3, (e 4 (by omega)).trans a4, ⟨(e 5 (by omega)).trans b1, b2, fun i f hi => ?_⟩, ⟨(e 30 (by omega)).trans c1, c2, fun i f hi => ?_⟩, ?_, ?_, fun i f hi => ?_⟩
  · have : i < (kF kd).length := get_lt hi
    have h9 := b3 i f hi
    rw [e _ (by omega), e _ (by omega), e _ (by omega)]
    exact h9
  · have : i < (kS kd).length := get_lt hi
    have h9 := c3 i f hi
    rw [e _ (by omega), e _ (by omega)]
    exact h9
  · rw [e 39 (by omega)]
    show _ = nI ((kX kd).set k (n, t)).length
    rw [List.length_set]
    exact d1
  · show ((kX kd).set k (n, t)).length ≤ 8
    rw [List.length_set]
    exact d2
  · rcases set_get hi with ⟨h1, h2⟩ | ⟨h1, h2⟩
    · subst h1; subst h2
      refine ⟨?_, ?_⟩
      · rw [pk_un (by omega), pk_us]
      · rw [pk_us]; exact hb
    · have h8 := get_lt h2
      obtain ⟨f1, f2⟩ := d3 i f h2
      refine ⟨?_, ?_⟩
      · rw [pk_un (by omega), pk_un (by omega)]; exact f1
      · rw [pk_un (by omega), pk_un (by omega)]; exact f2
end
section
variable {G : am_G} {ρ : mm_F} {d : Nat} {μ : mm_S} {bd : Term → Int32 → Prop} {w k : Nat} {kd : Kd}
theorem K_addField {x1 x2 n v : Int32} {Q : mm_S → Prop} (h1 : x1 = nI w) (h2 : x2 = nI k) (hw : w < 3) (hk : k < 12) (hK : isKd bd μ w k kd) (hl : ¬ (kF kd).length = 8) (h : ∀ μ', ro w k μ μ' → isKd bd μ' w k (addM kd (0, n, v, Term.thrown)) → Q μ') : W_X6_addField G ρ (d + 1) x1 x2 n v μ Q := by
  have e5 := hK.2.2.2.2.2.1.1
  have e8 := hK.2.2.2.2.2.1.2.1
  refine W_X6_addField_f (S_get (f := 5) h1 h2 rfl hw hk (by omega) (S_set (f := 5) h1 h2 rfl hw hk (by omega) (S_set (f := 6 + (kF kd).length) h1 h2 (by rw [e5]; exact nI_add 6 _) hw hk (by omega) (S_set (f := 14 + (kF kd).length) h1 h2 (by rw [e5]; exact nI_add 14 _) hw hk (by omega) (S_set (f := 22 + (kF kd).length) h1 h2 (by rw [e5]; exact nI_add 22 _) hw hk (by omega) ?_)))))
  rw [e5, nI_1]
  refine h _ ((((ro.refl.set (by omega)).set (by omega)).set (by omega)).set (by omega)) ?_
  show isKr bd _ _
  rw [wd_same, wd_same, wd_same, wd_same]
  exact isKr.addF hK hl
theorem K_addFixed {x1 x2 n v : Int32} {Q : mm_S → Prop} (h1 : x1 = nI w) (h2 : x2 = nI k) (hw : w < 3) (hk : k < 12) (hK : isKd bd μ w k kd) (hl : ¬ (kS kd).length = 4) (h : ∀ μ', ro w k μ μ' → isKd bd μ' w k (addM kd (1, n, v, Term.thrown)) → Q μ') : W_X6_addFixed G ρ (d + 1) x1 x2 n v μ Q := by
  have e5 := hK.2.2.2.2.2.2.1.1
  have e8 := hK.2.2.2.2.2.2.1.2.1
  refine W_X6_addFixed_f (S_get (f := 30) h1 h2 rfl hw hk (by omega) (S_set (f := 30) h1 h2 rfl hw hk (by omega) (S_set (f := 31 + (kS kd).length) h1 h2 (by rw [e5]; exact nI_add 31 _) hw hk (by omega) (S_set (f := 35 + (kS kd).length) h1 h2 (by rw [e5]; exact nI_add 35 _) hw hk (by omega) ?_))))
  rw [e5, nI_1]
  refine h _ (((ro.refl.set (by omega)).set (by omega)).set (by omega)) ?_
  show isKr bd _ _
  rw [wd_same, wd_same, wd_same]
  exact isKr.addS hK hl
theorem K_addAct {x1 x2 n v : Int32} {t : Term} {Q : mm_S → Prop} (h1 : x1 = nI w) (h2 : x2 = nI k) (hw : w < 3) (hk : k < 12) (hK : isKd bd μ w k kd) (hl : ixA kd n = none → ¬ (kX kd).length = 8) (hb : bd t v) (h : ∀ μ', ro w k μ μ' → isKd bd μ' w k (addM kd (2, n, 0, t)) → Q μ') : W_X6_addAct G ρ (d + 2) x1 x2 n v μ Q := by
  have e5 := hK.2.2.2.2.2.2.2.1
  have e8 := hK.2.2.2.2.2.2.2.2.1
  refine W_X6_addAct_f (K_actOf h1 h2 hw hk hK ?_)
  cases hx : ixA kd n with
  | none =>
    have hl := hl hx
    refine ⟨fun c => absurd rfl c, fun _ => S_get (f := 39) h1 h2 rfl hw hk (by omega) (S_set (f := 39) h1 h2 rfl hw hk (by omega) (B_X6_addAct_37_f (S_set (f := 40 + (kX kd).length) h1 h2 (by rw [e5]; exact nI_add 40 _) hw hk (by omega) (S_set (f := 48 + (kX kd).length) h1 h2 (by rw [e5]; exact nI_add 48 _) hw hk (by omega) ?_))))⟩
    rw [e5, nI_1]
    refine h _ (((ro.refl.set (by omega)).set (by omega)).set (by omega)) ?_
    show isKr bd _ _
    rw [wd_same, wd_same, wd_same]
    have e : addM kd (2, n, 0, t) = (kd.1, kF kd, kS kd, kX kd ++ [(n, t)]) := by
      unfold addM
      rw [if_pos rfl]
      dsimp only
      rw [hx]
    rw [e]
    exact isKr.addA hK hl hb
  | some i =>
    have hi := ixf_lt hx
    refine ⟨fun _ => B_X6_addAct_37_f (S_set (f := 40 + i) h1 h2 (nI_add 40 _) hw hk (by omega) (S_set (f := 48 + i) h1 h2 (nI_add 48 _) hw hk (by omega) ?_)), fun c => absurd c (nI_m1 (by omega))⟩
    refine h _ ((ro.refl.set (by omega)).set (by omega)) ?_
    show isKr bd _ _
    rw [wd_same, wd_same]
    have e : addM kd (2, n, 0, t) = (kd.1, kF kd, kS kd, (kX kd).set i (n, t)) := by
      unfold addM
      rw [if_pos rfl]
      dsimp only
      rw [hx]
    rw [e]
    exact isKr.setA hK hi hb
end
