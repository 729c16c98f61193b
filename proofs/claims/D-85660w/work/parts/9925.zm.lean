set_option maxRecDepth 100000
theorem ixf_appL {α : Type} {key : α → Int32} {x : Int32} : ∀ {l1 l2 : List α}, ixf key x (l1 ++ l2) = (match ixf key x l1 with
    | some i => some i
    | none => (ixf key x l2).map (· + l1.length))
  | [], l2 => by
    show ixf key x l2 = (ixf key x l2).map (fun y => y + 0)
    cases ixf key x l2 <;> rfl
  | a :: l1, l2 => by
    show (if key a = x then some 0 else (ixf key x (l1 ++ l2)).map (· + 1)) = match (if key a = x then some 0 else (ixf key x l1).map (· + 1)) with
      | some i => some i
      | none => (ixf key x l2).map (· + (l1.length + 1))
    by_cases h : key a = x
    · rw [if_pos h, if_pos h]
    · rw [if_neg h, if_neg h, ixf_appL]
      cases h1 : ixf key x l1 with
      | some i => rfl
      | none =>
        show ((ixf key x l2).map (· + l1.length)).map (· + 1) = _
        rw [Option.map_map]
        show _ = (ixf key x l2).map (· + (l1.length + 1))
        congr 1
theorem fiX_fxv {kd : Kd} {kn n : Int32} : fiX (fxv kd) kn n = if kN kd = kn then ixS kd n else none := by
  unfold fxv
  have : ∀ l : List (Int32 × Int32), fiX (l.map fun s => (kN kd, s.1, s.2)) kn n = if kN kd = kn then ixf (fun f : Int32 × Int32 => f.1) n l else none := fun l => by
    induction l with
    | nil =>
      show none = if kN kd = kn then none else none
      split <;> rfl
    | cons s l ih =>
      show (if (if kN kd = kn ∧ s.1 = n then (1 : Int32) else 0) = 1 then some 0 else (fiX (l.map fun s => (kN kd, s.1, s.2)) kn n).map (· + 1)) = if kN kd = kn then (if s.1 = n then some 0 else (ixf (fun f : Int32 × Int32 => f.1) n l).map (· + 1)) else none
      rw [ih]
      by_cases h1 : kN kd = kn
      · by_cases h2 : s.1 = n
        · rw [if_pos h1, if_pos h1, if_pos h2, if_pos (show (if kN kd = kn ∧ s.1 = n then (1 : Int32) else 0) = 1 from if_pos ⟨h1, h2⟩)]
        · rw [if_pos h1, if_pos h1, if_neg h2, show (if kN kd = kn ∧ s.1 = n then (1 : Int32) else 0) = 0 from if_neg fun h => h2 h.2, if_neg (by decide)]
      · rw [if_neg h1, if_neg h1, show (if kN kd = kn ∧ s.1 = n then (1 : Int32) else 0) = 0 from if_neg fun h => h1 h.1, if_neg (by decide)]
        rfl
  exact this (kS kd)
/-- where a kind's statics begin -/
def off (L : List Kd) (u : Nat) : Nat := (fxl (L.take u)).length
theorem fxl_cons {kd : Kd} {L : List Kd} : fxl (kd :: L) = fxv kd ++ fxl L := List.flatMap_cons
theorem off_0 {L : List Kd} : off L 0 = 0 := rfl
theorem off_s {kd : Kd} {L : List Kd} {u : Nat} : off (kd :: L) (u + 1) = (fxv kd).length + off L u := by
  unfold off
  rw [List.take_succ_cons, fxl_cons, List.length_append]
theorem fiX_no {kn n : Int32} : ∀ {L : List Kd}, (∀ kd, kd ∈ L → ¬ kN kd = kn) → fiX (fxl L) kn n = none
  | [], _ => rfl
  | kd :: L, h => by
    rw [fxl_cons, fiX, ixf_appL, show ixf _ 1 (fxv kd) = none from fiX_fxv.trans (if_neg (h kd List.mem_cons_self))]
    rw [show ixf _ 1 (fxl L) = none from fiX_no fun k hk => h k (List.mem_cons_of_mem _ hk)]
    rfl
theorem fiX_fxl {n : Int32} : ∀ {L : List Kd} {u : Nat} {ku : Kd}, (∀ (i j : Nat) (ki kj : Kd), L[i]? = some ki → L[j]? = some kj → kN ki = kN kj → i = j) → L[u]? = some ku → fiX (fxl L) (kN ku) n = (ixS ku n).map (off L u + ·)
  | [], u, ku, _, h => by simp at h
  | kd :: L, 0, ku, hu, h => by
    have : kd = ku := by simpa using h
    subst this
    rw [fxl_cons, fiX, ixf_appL, show ixf _ 1 (fxv kd) = ixS kd n from fiX_fxv.trans (if_pos rfl)]
    have hno : fiX (fxl L) (kN kd) n = none := fiX_no fun k hk he => by
      obtain ⟨j, hj⟩ := List.getElem?_of_mem hk
      have := hu (j + 1) 0 k kd hj rfl he
      omega
    cases hx : ixS kd n with
    | some i =>
      show some i = some (off (kd :: L) 0 + i)
      rw [off_0, Nat.zero_add]
    | none =>
      show (ixf _ 1 (fxl L)).map _ = _
      rw [show ixf _ 1 (fxl L) = none from hno]
      rfl
  | kd :: L, u + 1, ku, hu, h => by
    have h' : L[u]? = some ku := h
    have hne : ¬ kN kd = kN ku := fun he => by
      have := hu 0 (u + 1) kd ku rfl h he
      omega
    rw [fxl_cons, fiX, ixf_appL, show ixf _ 1 (fxv kd) = none from fiX_fxv.trans (if_neg hne)]
    show (fiX (fxl L) (kN ku) n).map (· + (fxv kd).length) = _
    rw [fiX_fxl (fun i j ki kj h1 h2 he => by have := hu (i + 1) (j + 1) ki kj h1 h2 he; omega) h', Option.map_map]
    congr 1
    funext q
    show off L u + q + (fxv kd).length = off (kd :: L) (u + 1) + q
    rw [off_s]
    omega
theorem fxl_get {i : Nat} {s : Int32 × Int32} : ∀ {L : List Kd} {u : Nat} {ku : Kd}, L[u]? = some ku → (kS ku)[i]? = some s → (fxl L)[off L u + i]? = some (kN ku, s.1, s.2)
  | [], u, ku, h, _ => by simp at h
  | kd :: L, 0, ku, h, hs => by
    have : kd = ku := by simpa using h
    subst this
    rw [off_0, Nat.zero_add, fxl_cons, List.getElem?_append_left (by unfold fxv; rw [List.length_map]; exact get_lt hs)]
    unfold fxv
    rw [List.getElem?_map, hs]
    rfl
  | kd :: L, u + 1, ku, h, hs => by
    have h' : L[u]? = some ku := h
    rw [off_s, fxl_cons, List.getElem?_append_right (by omega), show (fxv kd).length + off L u + i - (fxv kd).length = off L u + i by omega]
    exact fxl_get h' hs
/-- the first static up: among kinds, among their row -/
theorem fxU_eq {LX L : List Kd} (he : eqS LX L) (hu : ∀ (i j : Nat) (ki kj : Kd), L[i]? = some ki → L[j]? = some kj → kN ki = kN kj → i = j) {n : Int32} : ∀ (f : Nat) (o : Option Nat), fxU LX (fxl L) n f o = (upK L (fun kd => (ixS kd n).isSome) f o).bind fun u => (L[u]?).bind fun ku => (ixS ku n).map (off L u + ·)
  | f, none => by rw [fxU_none, upK_none]; rfl
  | 0, some _ => rfl
  | f + 1, some k => by
    cases hk : L[k]? with
    | none =>
      have hk' : LX[k]? = none := by
        rw [List.getElem?_eq_none_iff] at hk ⊢
        have := he.1
        omega
      show (match LX[k]? with | none => none | some kd => match fiX (fxl L) (kN kd) n with | some q => some q | none => fxU LX (fxl L) n f (kA kd)) = (match L[k]? with | none => none | some kd => if (ixS kd n).isSome = true then some k else upK L (fun kd => (ixS kd n).isSome) f (kA kd)).bind _
      rw [hk, hk']
      rfl
    | some kd =>
      have hl := get_lt hk
      have hk' : LX[k]? = some (LX[k]'(by rw [he.1]; exact hl)) := List.getElem?_eq_getElem _
      rw [fxU_some hk', upK_some hk]
      obtain ⟨-, -, -, -, h5, h6⟩ := he.ix hk' hk n
      rw [h5, h6, fiX_fxl hu hk]
      cases hx : ixS kd n with
      | some i =>
        show some (off L k + i) = (L[k]?).bind _
        rw [hk]
        show _ = (ixS kd n).map _
        rw [hx]
        rfl
      | none =>
        show fxU LX (fxl L) n f (kA kd) = _
        rw [fxU_eq he hu f (kA kd)]
        rfl
/-- a static that is set -/
theorem stS_of {L : List Kd} {u i : Nat} {ku : Kd} {n v : Int32} (h : L[u]? = some ku) (hi : ixS ku n = some i) : stS L u n v = L.set u (ku.1, kF ku, (kS ku).set i (n, v), kX ku) := by
  unfold stS
  rw [h]
  dsimp only
  rw [hi]
theorem stS_eqS {L : List Kd} {u : Nat} {n v : Int32} : eqS L (stS L u n v) := by
  unfold stS
  cases h : L[u]? with
  | none => exact eqS.refl
  | some ku =>
    dsimp only
    cases hi : ixS ku n with
    | none => exact eqS.refl
    | some i =>
      refine ⟨by rw [List.length_set], fun k kd kd' h1 h2 => ?_⟩
      rcases set_get h2 with ⟨e1, e2⟩ | ⟨e1, e2⟩
      · subst e1
        rw [h] at h1
        cases h1
        subst e2
        refine ⟨rfl, rfl, ?_, rfl⟩
        obtain ⟨s, s1, s2⟩ := ixf_some hi
        show (kS ku).map (·.1) = ((kS ku).set i (n, v)).map (·.1)
        rw [List.map_set]
        apply List.ext_getElem?
        intro q
        rw [List.getElem?_set]
        by_cases hq : i = q
        · subst hq
          rw [if_pos rfl, List.getElem?_map, s1, if_pos (by rw [List.length_map]; exact get_lt s1)]
          show some s.1 = some n
          rw [show s.1 = n from s2]
        · rw [if_neg hq]
      · rw [h1] at e2
        cases e2
        exact ⟨rfl, rfl, rfl, rfl⟩
theorem fxl_set {n v : Int32} {i : Nat} : ∀ {L : List Kd} {u : Nat} {ku : Kd}, L[u]? = some ku → i < (kS ku).length → fxl (L.set u (ku.1, kF ku, (kS ku).set i (n, v), kX ku)) = (fxl L).set (off L u + i) (kN ku, n, v)
  | [], u, ku, h, _ => by simp at h
  | kd :: L, 0, ku, h, hi => by
    have : kd = ku := by simpa using h
    subst this
    rw [List.set_cons_zero, fxl_cons, fxl_cons, off_0, Nat.zero_add, List.set_append_left _ _ (by unfold fxv; rw [List.length_map]; exact hi)]
    congr 1
    show ((kS kd).set i (n, v)).map (fun s => (kN kd, s.1, s.2)) = (fxv kd).set i _
    rw [List.map_set]
    rfl
  | kd :: L, u + 1, ku, h, hi => by
    have h' : L[u]? = some ku := h
    rw [List.set_cons_succ, fxl_cons, fxl_cons, off_s, List.set_append_right _ _ (by omega), show (fxv kd).length + off L u + i - (fxv kd).length = off L u + i by omega, fxl_set h' hi]
/-- well formed up to the values of statics -/
theorem wdI_eqS {L L' : List Kd} (h : WdI L) (he : eqS L L') : WdI L' := by
  obtain ⟨a1, a2, a3, a4, a5⟩ := h
  have back : ∀ {k : Nat} {kd' : Kd}, L'[k]? = some kd' → ∃ kd, L[k]? = some kd := fun {k kd'} h9 => ⟨_, List.getElem?_eq_getElem (by rw [he.1]; exact get_lt h9)⟩
  refine ⟨by rw [← he.1]; exact a1, he.aLE a2, fun i j ki kj hi hj hn => ?_, fun k kd' hk => ?_, fun k kd' n hk hn => ?_⟩
  · obtain ⟨k1, h1⟩ := back hi
    obtain ⟨k2, h2⟩ := back hj
    exact a3 i j k1 k2 h1 h2 (by rw [(he.ix h1 hi 0).2.2.2.2.2, (he.ix h2 hj 0).2.2.2.2.2]; exact hn)
  · obtain ⟨kd, h1⟩ := back hk
    obtain ⟨b1, b2, ⟨c1, c2, c3, c4, c5, c6, c7⟩⟩ := a4 k kd h1
    obtain ⟨e1, e2, e3, e4⟩ := he.2 k kd kd' h1 hk
    refine ⟨by rw [kN, ← e1]; exact b1, fun u hu => by rw [← he.1]; exact b2 u (by rw [kA, e1]; exact hu), ⟨by rw [← e2]; exact c1.1, ?_, by rw [← e4]; exact c1.2.2⟩, by rw [← e2]; exact c2, fun f hf => ?_, by rw [← e4]; exact c4, by rw [← e2]; exact c5, by rw [← e3]; exact c6, fun n n1 n2 => ?_⟩
    · have : (kS kd').length = (kS kd).length := by
        have := congrArg List.length e3
        rw [List.length_map, List.length_map] at this
        exact this.symm
      rw [this]
      exact c1.2.1
    · have : f.1 ∈ (kS kd').map (·.1) := List.mem_map.mpr ⟨f, hf, rfl⟩
      rw [← e3] at this
      obtain ⟨f', f1, f2⟩ := List.mem_map.mp this
      rw [← f2]
      exact c3 f' f1
    · obtain ⟨i1, i2, -⟩ := he.ix h1 hk n
      rw [← i1] at n1
      rw [← i2] at n2
      exact c7 n n1 n2
  · obtain ⟨kd, h1⟩ := back hk
    obtain ⟨-, -, -, i4, i5, -⟩ := he.ix h1 hk n
    rw [← i4] at hn
    rw [← i5, ← eqS.upE he (fun k kd kd' h1 h2 => (he.ix h1 h2 n).2.2.2.1) 12]
    exact a5 k kd n h1 hn
/-! places of fields differ by their names -/
theorem plc_has {L : List Kd} {u : Nat} {x : Int32 × Int32 × Int32} : ∀ (f : Nat) (o : Option Nat), (u, x) ∈ plc L f o → (upK L (hasO x.1) f o).isSome = true
  | f, none, h => by rw [plc_none] at h; cases h
  | 0, some _, h => by cases h
  | f + 1, some k, h => by
    cases hk : L[k]? with
    | none =>
      have : plc L (f + 1) (some k) = [] := by
        show (match L[k]? with | none => [] | some kd => plc L f (kA kd) ++ (kF kd).map fun x => (k, x)) = _
        rw [hk]
      rw [this] at h
      cases h
    | some kd =>
      rw [plc_some hk] at h
      rw [upK_some hk]
      by_cases h9 : hasO x.1 kd = true
      · rw [if_pos h9]; rfl
      · rw [if_neg h9]
        rcases List.mem_append.mp h with h8 | h8
        · exact plc_has f _ h8
        · exfalso
          obtain ⟨y, y1, y2⟩ := List.mem_map.mp h8
          injection y2 with y3 y4
          subst y4
          apply h9
          unfold hasO
          rw [ixf_isSome.mpr ⟨y, y1, rfl⟩]
          rfl
theorem plc_nd {L : List Kd} (hw : WdI L) : ∀ (f : Nat) (o : Option Nat), f ≤ 12 → ac L f o → ((plc L f o).map fun x => x.2.1).Nodup
  | f, none, _, _ => by rw [plc_none]; exact List.nodup_nil
  | 0, some _, _, h => h.elim
  | f + 1, some k, hf, h => by
    obtain ⟨kd, hk, h2⟩ := ac_some h
    rw [plc_some hk, List.map_append, List.nodup_append]
    refine ⟨plc_nd hw f _ (by omega) h2, ?_, fun a ha b hb hab => ?_⟩
    · rw [List.map_map]
      exact (hw.2.2.2.1 k kd hk).2.2.2.2.2.2.1
    · obtain ⟨⟨u, x⟩, x1, x2⟩ := List.mem_map.mp ha
      rw [List.map_map] at hb
      obtain ⟨y, y1, y2⟩ := List.mem_map.mp hb
      have h9 := plc_has f _ x1
      have h8 : hasO x.1 kd = true := by
        unfold hasO
        have : y.1 = x.1 := by
          have e1 : x.1 = a := x2
          have e2 : y.1 = b := y2
          rw [e1, e2, hab]
        rw [ixf_isSome.mpr ⟨y, y1, this⟩]
        rfl
      have := hw.2.2.2.2 k kd x.1 hk h8
      rw [upK_f f _ h2 12 (by omega)] at this
      rw [this] at h9
      cases h9
theorem plc_inj {L : List Kd} (hw : WdI L) {k p p' u u' : Nat} {x x' : Int32 × Int32 × Int32} (hk : k < L.length) (h1 : (plc L 12 (some k))[p]? = some (u, x)) (h2 : (plc L 12 (some k))[p']? = some (u', x')) (he : x.1 = x'.1) : p = p' := by
  have hnd := plc_nd hw 12 (some k) (Nat.le_refl _) (hw.2.1 k hk)
  have g1 : ((plc L 12 (some k)).map fun x => x.2.1)[p]? = some x.1 := by rw [List.getElem?_map, h1]; rfl
  have g2 : ((plc L 12 (some k)).map fun x => x.2.1)[p']? = some x.1 := by rw [List.getElem?_map, h2, he]; rfl
  exact (List.getElem?_inj (get_lt g1) hnd).mp (g1.trans g2.symm)
/-- a field's kind is one up, that has it -/
theorem plc_of {L : List Kd} {u : Nat} {x : Int32 × Int32 × Int32} : ∀ (f : Nat) (o : Option Nat), (u, x) ∈ plc L f o → ∃ ku, L[u]? = some ku ∧ x ∈ kF ku
  | f, none, h => by rw [plc_none] at h; cases h
  | 0, some _, h => by cases h
  | f + 1, some k, h => by
    cases hk : L[k]? with
    | none =>
      have : plc L (f + 1) (some k) = [] := by
        show (match L[k]? with | none => [] | some kd => plc L f (kA kd) ++ (kF kd).map fun x => (k, x)) = _
        rw [hk]
      rw [this] at h
      cases h
    | some kd =>
      rw [plc_some hk] at h
      rcases List.mem_append.mp h with h8 | h8
      · exact plc_of f _ h8
      · obtain ⟨y, y1, y2⟩ := List.mem_map.mp h8
        injection y2 with y3 y4
        subst y3; subst y4
        exact ⟨kd, hk, y1⟩
theorem plc_nm {L : List Kd} (hw : WdI L) {k p u : Nat} {x : Int32 × Int32 × Int32} (h : (plc L 12 (some k))[p]? = some (u, x)) : ∃ n, n < 40 ∧ x.1 = nI n := by
  obtain ⟨ku, h1, h2⟩ := plc_of 12 _ (List.mem_of_getElem? h)
  exact (hw.2.2.2.1 u ku h1).2.2.2.1 x h2
/-- a place's name leads back to it -/
theorem plI_of {L : List Kd} (hw : WdI L) {k p u : Nat} {x : Int32 × Int32 × Int32} (hk : k < L.length) (h : (plc L 12 (some k))[p]? = some (u, x)) : plI L x.1 12 (some k) = some p := by
  have hac := hw.2.1 k hk
  have hs : (plI L x.1 12 (some k)).isSome = true := by
    rw [plI_up 12 _ hac]
    have : ∀ (f : Nat) (o : Option Nat), (u, x) ∈ plc L f o → (upK L (fun kd => (ixF kd x.1).isSome) f o).isSome = true := fun f => by
      induction f with
      | zero =>
        intro o h
        cases o with
        | none => rw [plc_none] at h; cases h
        | some k => cases h
      | succ f ih =>
        intro o h
        cases o with
        | none => rw [plc_none] at h; cases h
        | some k =>
          cases hk : L[k]? with
          | none =>
            have : plc L (f + 1) (some k) = [] := by
              show (match L[k]? with | none => [] | some kd => plc L f (kA kd) ++ (kF kd).map fun x => (k, x)) = _
              rw [hk]
            rw [this] at h
            cases h
          | some kd =>
            rw [plc_some hk] at h
            rw [upK_some hk]
            by_cases h9 : (ixF kd x.1).isSome = true
            · rw [if_pos h9]; rfl
            · rw [if_neg h9]
              rcases List.mem_append.mp h with h8 | h8
              · exact ih _ h8
              · exfalso
                obtain ⟨y, y1, y2⟩ := List.mem_map.mp h8
                injection y2 with y3 y4
                subst y4
                exact h9 (ixf_isSome.mpr ⟨y, y1, rfl⟩)
    exact this 12 _ (List.mem_of_getElem? h)
  cases hp : plI L x.1 12 (some k) with
  | none => rw [hp] at hs; cases hs
  | some p' =>
    obtain ⟨u', x', h1, h2⟩ := plI_get 12 _ hp
    rw [plc_inj hw hk h h1 h2.symm]
