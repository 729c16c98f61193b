set_option maxRecDepth 100000
/-! ===== formulas over the abstract heap (f_): what an instruction asks, and where it goes on ===== -/
/-- the class of the object r is one of cs -/
def f_c (σ : am_S) (r : Option Nat) (K : Nat → (Nat → Value) → Nat → Prop) : Prop := match r with
  | none => False
  | some a => match σ.1 a with
    | some (.inr (ci, f)) => K ci f a
    | _ => False
def f_k (σ : am_S) (r : Option Nat) (cs : List Nat) (K : Prop) : Prop := f_c σ r fun ci _ _ => ci ∈ cs ∧ K
def f_gi (σ : am_S) (r : Option Nat) (cs : List Nat) (k : Nat) (K : Int32 → Prop) : Prop := f_c σ r fun ci f _ => ci ∈ cs ∧ match f k with
  | .int x => K x
  | _ => False
def f_gl (σ : am_S) (r : Option Nat) (cs : List Nat) (k : Nat) (K : Int64 → Prop) : Prop := f_c σ r fun ci f _ => ci ∈ cs ∧ match f k with
  | .long x => K x
  | _ => False
def f_gr (σ : am_S) (r : Option Nat) (cs : List Nat) (k : Nat) (K : Option Nat → Prop) : Prop := f_c σ r fun ci f _ => ci ∈ cs ∧ match f k with
  | .ref a => K (some a)
  | .null => K none
  | _ => False
def f_p (σ : am_S) (r : Option Nat) (cs : List Nat) (k : Nat) (v : Value) (K : am_S → Prop) : Prop := f_c σ r fun ci f a => ci ∈ cs ∧ K (am_up σ a (.inr (ci, updV f k v)))
def f_a (σ : am_S) (r : Option Nat) (τ : Nat) (K : vp_A → Nat → Prop) : Prop := match r with
  | none => False
  | some a => match σ.1 a with
    | some (.inl (t, x)) => t = τ ∧ K x a
    | _ => False
def f_al (σ : am_S) (r : Option Nat) (τ : Nat) (K : Int32 → Prop) : Prop := f_a σ r τ fun x _ => K (nI x.1)
def f_ai (σ : am_S) (r : Option Nat) (τ : Nat) (i : Int32) (K : Int32 → Prop) : Prop := f_a σ r τ fun x _ => vp_in i x.1 ∧ match x.2 with
  | .inl f => K (f i.toNatClampNeg)
  | _ => False
def f_aj (σ : am_S) (r : Option Nat) (τ : Nat) (i : Int32) (K : Int64 → Prop) : Prop := f_a σ r τ fun x _ => vp_in i x.1 ∧ match x.2 with
  | .inr (.inl f) => K (f i.toNatClampNeg)
  | _ => False
def f_ar (σ : am_S) (r : Option Nat) (τ : Nat) (i : Int32) (K : Option Nat → Prop) : Prop := f_a σ r τ fun x _ => vp_in i x.1 ∧ match x.2 with
  | .inr (.inr (.inr (.inr f))) => K (f i.toNatClampNeg)
  | _ => False
/-- what an array of the type τ keeps of an int -/
def f_nar (τ : Nat) (x : Int32) : Int32 := match τ with
  | 1 => vp_nar .byte x
  | 2 => vp_nar .char x
  | 3 => vp_nar .boolean x
  | _ => x
def f_si (σ : am_S) (r : Option Nat) (τ : Nat) (i x : Int32) (K : am_S → Prop) : Prop := f_a σ r τ fun y a => vp_in i y.1 ∧ match y.2 with
  | .inl f => K (am_up σ a (.inl (τ, y.1, .inl (upd f i.toNatClampNeg (f_nar τ x)))))
  | _ => False
def f_sj (σ : am_S) (r : Option Nat) (τ : Nat) (i : Int32) (x : Int64) (K : am_S → Prop) : Prop := f_a σ r τ fun y a => vp_in i y.1 ∧ match y.2 with
  | .inr (.inl f) => K (am_up σ a (.inl (τ, y.1, .inr (.inl (vp_updL f i.toNatClampNeg x)))))
  | _ => False
/-- a reference stored: null, or an object of one of the classes cs -/
def f_sr (σ : am_S) (r : Option Nat) (τ : Nat) (cs : List Nat) (i : Int32) (v : Option Nat) (K : am_S → Prop) : Prop := f_a σ r τ fun y a => vp_in i y.1 ∧ (match v with
  | none => True
  | some _ => f_k σ v cs True) ∧ match y.2 with
  | .inr (.inr (.inr (.inr f))) => K (am_up σ a (.inl (τ, y.1, .inr (.inr (.inr (.inr (va_up f i.toNatClampNeg v)))))))
  | _ => False
def f_new (G : am_G) (σ : am_S) (ci N : Nat) (ty : Nat → FieldType) (K : Nat → am_S → Prop) : Prop := σ.2.1 + 1 ≤ am_bc G ∧ σ.2.2 + N ≤ am_bs G ∧ K σ.2.1 (am_nw σ (.inr (ci, fun j => defaultValue (ty j))) N)
def f_na (G : am_G) (σ : am_S) (τ : Nat) (x : Nat → vp_A) (n : Int32) (K : Nat → am_S → Prop) : Prop := ∃ N : Nat, n = nI N ∧ N ≤ 65536 ∧ σ.2.1 + 1 ≤ am_bc G ∧ σ.2.2 + N ≤ am_bs G ∧ K σ.2.1 (am_nw σ (.inl (τ, x N)) N)
def f_a0i (n : Nat) : vp_A := (n, .inl fun _ => 0)
def f_a0j (n : Nat) : vp_A := (n, .inr (.inl fun _ => 0))
def f_a0r (n : Nat) : vp_A := (n, .inr (.inr (.inr (.inr fun _ => none))))
def f_cpi (σ : am_S) (r0 : Option Nat) (sp : Int32) (r1 : Option Nat) (dp n : Int32) (τ : Nat) (ty : FieldType) (K : am_S → Prop) : Prop := f_a σ r0 τ fun x _ => f_a σ r1 τ fun y a => ¬ sp < 0 ∧ ¬ dp < 0 ∧ ¬ n < 0 ∧ sp.toNatClampNeg + n.toNatClampNeg ≤ x.1 ∧ dp.toNatClampNeg + n.toNatClampNeg ≤ y.1 ∧ match x.2, y.2 with
  | .inl f, .inl g => (∀ i, i < n.toNatClampNeg → fits ty (.int (f (sp.toNatClampNeg + i))) = true) ∧ K (am_up σ a (.inl (τ, y.1, .inl (va_cpy f g sp.toNatClampNeg dp.toNatClampNeg n.toNatClampNeg))))
  | _, _ => False
def f_cpr (σ : am_S) (r0 : Option Nat) (sp : Int32) (r1 : Option Nat) (dp n : Int32) (τ : Nat) (cs : List Nat) (K : am_S → Prop) : Prop := f_a σ r0 τ fun x _ => f_a σ r1 τ fun y a => ¬ sp < 0 ∧ ¬ dp < 0 ∧ ¬ n < 0 ∧ sp.toNatClampNeg + n.toNatClampNeg ≤ x.1 ∧ dp.toNatClampNeg + n.toNatClampNeg ≤ y.1 ∧ match x.2, y.2 with
  | .inr (.inr (.inr (.inr f))), .inr (.inr (.inr (.inr g))) => (∀ i, i < n.toNatClampNeg → ∀ b, f (sp.toNatClampNeg + i) = some b → f_k σ (some b) cs True) ∧ K (am_up σ a (.inl (τ, y.1, .inr (.inr (.inr (.inr (va_cpy f g sp.toNatClampNeg dp.toNatClampNeg n.toNatClampNeg)))))))
  | _, _ => False
/-- a test of the class: one of ys, or one of ns -/
def f_is (σ : am_S) (r : Option Nat) (ys ns : List Nat) (K : Int32 → Prop) : Prop := f_c σ r fun ci _ _ => (ci ∈ ys ∨ ci ∈ ns) ∧ (ci ∈ ys → K 1) ∧ (ci ∉ ys → K 0)
/-- what a method comes to -/
def f_qi (Q : Int32 → am_S → Prop) (E : Nat → am_S → Prop) : am_R → am_S → Prop := fun r σ => match r with
  | .inl (some (.int v)) => Q v σ
  | .inr q => E q σ
  | _ => False
def f_ql (Q : Int64 → am_S → Prop) (E : Nat → am_S → Prop) : am_R → am_S → Prop := fun r σ => match r with
  | .inl (some (.long v)) => Q v σ
  | .inr q => E q σ
  | _ => False
def f_qr (Q : Option Nat → am_S → Prop) (E : Nat → am_S → Prop) : am_R → am_S → Prop := fun r σ => match r with
  | .inl (some (.ref a)) => Q (some a) σ
  | .inl (some .null) => Q none σ
  | .inr q => E q σ
  | _ => False
def f_qv (Q : am_S → Prop) (E : Nat → am_S → Prop) : am_R → am_S → Prop := fun r σ => match r with
  | .inl none => Q σ
  | .inr q => E q σ
  | _ => False
def f_no : Nat → am_S → Prop := fun _ _ => False
/-! monotony -/
theorem f_c_mono {σ : am_S} {r : Option Nat} {K K' : Nat → (Nat → Value) → Nat → Prop} (hk : ∀ ci f a, r = some a → σ.1 a = some (.inr (ci, f)) → K ci f a → K' ci f a) (h : f_c σ r K) : f_c σ r K' := by
  unfold f_c at *
  cases r with
  | none => exact h
  | some a =>
    dsimp only at *
    cases hs : σ.1 a with
    | none => rw [hs] at h; exact h
    | some e =>
      rw [hs] at h
      cases e with
      | inl x => exact h
      | inr x => exact hk _ _ _ rfl hs h
theorem f_c_of {σ : am_S} {r : Option Nat} {K : Nat → (Nat → Value) → Nat → Prop} (h : f_c σ r K) : ∃ a ci f, r = some a ∧ σ.1 a = some (.inr (ci, f)) ∧ K ci f a := by
  unfold f_c at h
  cases r with
  | none => exact h.elim
  | some a =>
    dsimp only at h
    cases hs : σ.1 a with
    | none => rw [hs] at h; exact h.elim
    | some e =>
      rw [hs] at h
      cases e with
      | inl x => exact h.elim
      | inr x => exact ⟨a, x.1, x.2, rfl, hs, h⟩
theorem f_a_of {σ : am_S} {r : Option Nat} {τ : Nat} {K : vp_A → Nat → Prop} (h : f_a σ r τ K) : ∃ a x, r = some a ∧ σ.1 a = some (.inl (τ, x)) ∧ K x a := by
  unfold f_a at h
  cases r with
  | none => exact h.elim
  | some a =>
    dsimp only at h
    cases hs : σ.1 a with
    | none => rw [hs] at h; exact h.elim
    | some e =>
      rw [hs] at h
      cases e with
      | inr x => exact h.elim
      | inl x =>
        obtain ⟨t, y⟩ := x
        obtain ⟨h1, h2⟩ := h
        subst h1
        exact ⟨a, y, rfl, hs, h2⟩
/-- a site of a field: which classes, which place, in the tables of the method's class -/
def f_fld (own : String) (index : Nat) (cs : List Nat) (k : Nat) (w : Bool) : Prop := ∀ ci ∈ cs, ∃ (Cn : String) (T : u_T) (N : Nat) (ty : Nat → FieldType) (ref : String), am_inf ci Cn T N ty ∧ k < N ∧ ((Cond.fieldLink own index ref (T k).2.1 (T k).2.2.1 ∈ lw_all ∧ (ref = (T k).1 ∨ (w = false ∧ Cond.sameField ref (T k).1 (T k).2.1 (T k).2.2.1 ∈ lw_all))) ∨ ∃ host, Cond.fieldLinkNest own index ref (T k).2.1 (T k).2.2.1 host ∈ lw_tbl ∧ ref = (T k).1)
section
variable {G : am_G} {M : am_M} {pc d : Nat} {L : List (Nat × Value)} {rest : List Value} {σ : am_S} {Q : am_R → am_S → Prop}
theorem fx_g {index ci k a : Nat} {cs : List Nat} {f : Nat → Value} (hf : f_fld M.1.cls index cs k false) (hdg : decode M.2.1 pc = .ok (.getfield index, 3)) (hc : ci ∈ cs) (he : σ.1 a = some (.inr (ci, f))) (kk : am_Wp G M (pc + 3) d L (f k :: rest) σ Q) : am_Wp G M pc d L (.ref a :: rest) σ Q := by
  obtain ⟨Cn, T, N, ty, ref, hI, hk, ⟨h1, h2⟩ | ⟨host, h1, h2⟩⟩ := hf ci hc
  · exact am_getfield hI k hk h1 (h2.elim Or.inl fun h => Or.inr h.2) hdg he kk
  · exact am_getfieldN hI k hk h1 h2 hdg he kk
theorem fx_gi {index k : Nat} {cs : List Nat} {r : Option Nat} (hf : f_fld M.1.cls index cs k false) (hdg : decode M.2.1 pc = .ok (.getfield index, 3)) {K : Int32 → Prop} (h : f_gi σ r cs k K) (kk : ∀ x, K x → am_Wp G M (pc + 3) d L (.int x :: rest) σ Q) : am_Wp G M pc d L (va_rf r :: rest) σ Q := by
  obtain ⟨a, ci, f, rfl, hs, hc, h9⟩ := f_c_of h
  refine fx_g hf hdg hc hs ?_
  cases hv : f k with
  | int x => rw [hv] at h9; exact kk x h9
  | _ => rw [hv] at h9; exact h9.elim
theorem fx_gl {index k : Nat} {cs : List Nat} {r : Option Nat} (hf : f_fld M.1.cls index cs k false) (hdg : decode M.2.1 pc = .ok (.getfield index, 3)) {K : Int64 → Prop} (h : f_gl σ r cs k K) (kk : ∀ x, K x → am_Wp G M (pc + 3) d L (.long x :: rest) σ Q) : am_Wp G M pc d L (va_rf r :: rest) σ Q := by
  obtain ⟨a, ci, f, rfl, hs, hc, h9⟩ := f_c_of h
  refine fx_g hf hdg hc hs ?_
  cases hv : f k with
  | long x => rw [hv] at h9; exact kk x h9
  | _ => rw [hv] at h9; exact h9.elim
theorem fx_gr {index k : Nat} {cs : List Nat} {r : Option Nat} (hf : f_fld M.1.cls index cs k false) (hdg : decode M.2.1 pc = .ok (.getfield index, 3)) {K : Option Nat → Prop} (h : f_gr σ r cs k K) (kk : ∀ x, K x → am_Wp G M (pc + 3) d L (va_rf x :: rest) σ Q) : am_Wp G M pc d L (va_rf r :: rest) σ Q := by
  obtain ⟨a, ci, f, rfl, hs, hc, h9⟩ := f_c_of h
  refine fx_g hf hdg hc hs ?_
  cases hv : f k with
  | ref x => rw [hv] at h9; exact kk (some x) h9
  | null => rw [hv] at h9; exact kk none h9
  | _ => rw [hv] at h9; exact h9.elim
/-- a site of a field that is written: not final, or final and in the class's own constructor -/
def f_put (M : am_M) (index : Nat) (cs : List Nat) (k : Nat) (v : Value) : Prop := ∀ ci ∈ cs, ∃ (Cn : String) (T : u_T) (N : Nat) (ty : Nat → FieldType), am_inf ci Cn T N ty ∧ k < N ∧ narrow (ty k) v = v ∧ fits (ty k) v = true ∧
  ((Cond.fieldLink M.1.cls index (T k).1 (T k).2.1 (T k).2.2.1 ∈ lw_all ∧ ((T k).2.2.2 = false ∨ ((T k).2.2.2 = true ∧ M.1.name = "<init>" ∧ (T k).1 = M.1.cls))) ∨ (∃ host, Cond.fieldLinkNest M.1.cls index (T k).1 (T k).2.1 (T k).2.2.1 host ∈ lw_tbl ∧ (T k).2.2.2 = false))
theorem fx_p {index k : Nat} {cs : List Nat} {r : Option Nat} {v : Value} (hf : f_put M index cs k v) (hdg : decode M.2.1 pc = .ok (.putfield index, 3)) {K : am_S → Prop} (h : f_p σ r cs k v K) (kk : ∀ σ', K σ' → am_Wp G M (pc + 3) d L rest σ' Q) : am_Wp G M pc d L (v :: va_rf r :: rest) σ Q := by
  obtain ⟨a, ci, f, rfl, hs, hc, h9⟩ := f_c_of h
  obtain ⟨Cn, T, N, ty, hI, hk, hn, hfi, ⟨h1, h2 | ⟨h2, h3, h4⟩⟩ | ⟨host, h1, h2⟩⟩ := hf ci hc
  · exact am_putfield hI k hk h1 rfl h2 hn hfi hdg hs (kk _ h9)
  · exact am_putfieldF hI k hk h1 rfl h2 h3 h4 hn hfi hdg hs (kk _ h9)
  · exact am_putfieldN hI k hk h1 rfl h2 hn hfi hdg hs (kk _ h9)
theorem fx_al {τ : Nat} {ty : FieldType} {r : Option Nat} (ht : am_tyl[τ]? = some ty) (hdg : decode M.2.1 pc = .ok (.arraylength, 1)) {K : Int32 → Prop} (h : f_al σ r τ K) (kk : ∀ x, K x → am_Wp G M (pc + 1) d L (.int x :: rest) σ Q) : am_Wp G M pc d L (va_rf r :: rest) σ Q := by
  obtain ⟨a, x, rfl, hs, h9⟩ := f_a_of h
  exact am_alen hdg hs ht (kk _ h9)
theorem fx_ai0 {r : Option Nat} {i : Int32} (hdg : decode M.2.1 pc = .ok (.iaload, 1)) {K : Int32 → Prop} (h : f_ai σ r 0 i K) (kk : ∀ x, K x → am_Wp G M (pc + 1) d L (.int x :: rest) σ Q) : am_Wp G M pc d L (.int i :: va_rf r :: rest) σ Q := by
  obtain ⟨a, ⟨n, x⟩, rfl, hs, hi, h9⟩ := f_a_of h
  cases x with
  | inl f => exact am_iald hdg hs hi (kk _ h9)
  | inr z => exact h9.elim
theorem fx_ai1 {r : Option Nat} {i : Int32} (hdg : decode M.2.1 pc = .ok (.baload, 1)) {K : Int32 → Prop} (h : f_ai σ r 1 i K) (kk : ∀ x, K x → am_Wp G M (pc + 1) d L (.int x :: rest) σ Q) : am_Wp G M pc d L (.int i :: va_rf r :: rest) σ Q := by
  obtain ⟨a, ⟨n, x⟩, rfl, hs, hi, h9⟩ := f_a_of h
  cases x with
  | inl f => exact am_bald hdg hs hi (kk _ h9)
  | inr z => exact h9.elim
theorem fx_ai2 {r : Option Nat} {i : Int32} (hdg : decode M.2.1 pc = .ok (.caload, 1)) {K : Int32 → Prop} (h : f_ai σ r 2 i K) (kk : ∀ x, K x → am_Wp G M (pc + 1) d L (.int x :: rest) σ Q) : am_Wp G M pc d L (.int i :: va_rf r :: rest) σ Q := by
  obtain ⟨a, ⟨n, x⟩, rfl, hs, hi, h9⟩ := f_a_of h
  cases x with
  | inl f => exact am_cald hdg hs hi (kk _ h9)
  | inr z => exact h9.elim
theorem fx_ai3 {r : Option Nat} {i : Int32} (hdg : decode M.2.1 pc = .ok (.baload, 1)) {K : Int32 → Prop} (h : f_ai σ r 3 i K) (kk : ∀ x, K x → am_Wp G M (pc + 1) d L (.int x :: rest) σ Q) : am_Wp G M pc d L (.int i :: va_rf r :: rest) σ Q := by
  obtain ⟨a, ⟨n, x⟩, rfl, hs, hi, h9⟩ := f_a_of h
  cases x with
  | inl f => exact am_zald hdg hs hi (kk _ h9)
  | inr z => exact h9.elim
theorem fx_aj {r : Option Nat} {i : Int32} (hdg : decode M.2.1 pc = .ok (.laload, 1)) {K : Int64 → Prop} (h : f_aj σ r 4 i K) (kk : ∀ x, K x → am_Wp G M (pc + 1) d L (.long x :: rest) σ Q) : am_Wp G M pc d L (.int i :: va_rf r :: rest) σ Q := by
  obtain ⟨a, ⟨n, x⟩, rfl, hs, hi, h9⟩ := f_a_of h
  match x, hs, h9 with
  | .inr (.inl f), hs, h9 => exact am_lald hdg hs hi (kk _ h9)
  | .inl f, hs, h9 => exact h9.elim
  | .inr (.inr f), hs, h9 => exact h9.elim
theorem fx_ar {τ : Nat} {ty : FieldType} {r : Option Nat} {i : Int32} (ht : am_tyl[τ]? = some ty) (hty : ty.isReference = true) (hdg : decode M.2.1 pc = .ok (.aaload, 1)) {K : Option Nat → Prop} (h : f_ar σ r τ i K) (kk : ∀ x, K x → am_Wp G M (pc + 1) d L (va_rf x :: rest) σ Q) : am_Wp G M pc d L (.int i :: va_rf r :: rest) σ Q := by
  obtain ⟨a, ⟨n, x⟩, rfl, hs, hi, h9⟩ := f_a_of h
  match x, hs, h9 with
  | .inr (.inr (.inr (.inr f))), hs, h9 => exact am_aald hdg hs ht hty hi (kk _ h9)
  | .inl f, hs, h9 => exact h9.elim
  | .inr (.inl f), hs, h9 => exact h9.elim
  | .inr (.inr (.inl f)), hs, h9 => exact h9.elim
  | .inr (.inr (.inr (.inl f))), hs, h9 => exact h9.elim
theorem fx_si0 {r : Option Nat} {i x : Int32} (hdg : decode M.2.1 pc = .ok (.iastore, 1)) {K : am_S → Prop} (h : f_si σ r 0 i x K) (kk : ∀ σ', K σ' → am_Wp G M (pc + 1) d L rest σ' Q) : am_Wp G M pc d L (.int x :: .int i :: va_rf r :: rest) σ Q := by
  obtain ⟨a, ⟨n, y⟩, rfl, hs, hi, h9⟩ := f_a_of h
  cases y with
  | inl f => exact am_iast hdg hs hi (kk _ h9)
  | inr z => exact h9.elim
theorem fx_si1 {r : Option Nat} {i x : Int32} (hdg : decode M.2.1 pc = .ok (.bastore, 1)) {K : am_S → Prop} (h : f_si σ r 1 i x K) (kk : ∀ σ', K σ' → am_Wp G M (pc + 1) d L rest σ' Q) : am_Wp G M pc d L (.int x :: .int i :: va_rf r :: rest) σ Q := by
  obtain ⟨a, ⟨n, y⟩, rfl, hs, hi, h9⟩ := f_a_of h
  cases y with
  | inl f => exact am_bast hdg hs hi (kk _ h9)
  | inr z => exact h9.elim
theorem fx_si2 {r : Option Nat} {i x : Int32} (hdg : decode M.2.1 pc = .ok (.castore, 1)) {K : am_S → Prop} (h : f_si σ r 2 i x K) (kk : ∀ σ', K σ' → am_Wp G M (pc + 1) d L rest σ' Q) : am_Wp G M pc d L (.int x :: .int i :: va_rf r :: rest) σ Q := by
  obtain ⟨a, ⟨n, y⟩, rfl, hs, hi, h9⟩ := f_a_of h
  cases y with
  | inl f => exact am_cast hdg hs hi (kk _ h9)
  | inr z => exact h9.elim
theorem fx_si3 {r : Option Nat} {i x : Int32} (hdg : decode M.2.1 pc = .ok (.bastore, 1)) {K : am_S → Prop} (h : f_si σ r 3 i x K) (kk : ∀ σ', K σ' → am_Wp G M (pc + 1) d L rest σ' Q) : am_Wp G M pc d L (.int x :: .int i :: va_rf r :: rest) σ Q := by
  obtain ⟨a, ⟨n, y⟩, rfl, hs, hi, h9⟩ := f_a_of h
  cases y with
  | inl f => exact am_zast hdg hs hi (kk _ h9)
  | inr z => exact h9.elim
theorem fx_sj {r : Option Nat} {i : Int32} {x : Int64} (hdg : decode M.2.1 pc = .ok (.lastore, 1)) {K : am_S → Prop} (h : f_sj σ r 4 i x K) (kk : ∀ σ', K σ' → am_Wp G M (pc + 1) d L rest σ' Q) : am_Wp G M pc d L (.long x :: .int i :: va_rf r :: rest) σ Q := by
  obtain ⟨a, ⟨n, y⟩, rfl, hs, hi, h9⟩ := f_a_of h
  match y, hs, h9 with
  | .inr (.inl f), hs, h9 => exact am_last hdg hs hi (kk _ h9)
  | .inl f, hs, h9 => exact h9.elim
  | .inr (.inr f), hs, h9 => exact h9.elim
/-- classes by their places -/
def f_cls (cs : List Nat) (P : String → Prop) : Prop := ∀ ci ∈ cs, ∃ (Cn : String) (T : u_T) (N : Nat) (ty : Nat → FieldType), am_inf ci Cn T N ty ∧ P Cn
theorem fx_sr {τ : Nat} {E : String} {cs : List Nat} {r v : Option Nat} {i : Int32} (ht : am_tyl[τ]? = some (.object E)) (hcs : f_cls cs fun Cn => Cn = E ∨ Cond.castable Cn E ∈ lw_tbl) (hdg : decode M.2.1 pc = .ok (.aastore, 1)) {K : am_S → Prop} (h : f_sr σ r τ cs i v K) (kk : ∀ σ', K σ' → am_Wp G M (pc + 1) d L rest σ' Q) : am_Wp G M pc d L (va_rf v :: .int i :: va_rf r :: rest) σ Q := by
  obtain ⟨a, ⟨n, y⟩, rfl, hs, hi, hv, h9⟩ := f_a_of h
  match y, hs, h9 with
  | .inr (.inr (.inr (.inr f))), hs, h9 =>
    cases v with
    | none => exact am_aastN hdg hs ht hi (kk _ h9)
    | some b =>
      obtain ⟨b', ci, fv, hb, hsb, hc, -⟩ := f_c_of hv
      cases hb
      obtain ⟨Cn, T, N, ty, hI, hP⟩ := hcs ci hc
      exact am_aast hI hdg hs ht hP hsb hi (kk _ h9)
  | .inl f, hs, h9 => exact h9.elim
  | .inr (.inl f), hs, h9 => exact h9.elim
  | .inr (.inr (.inl f)), hs, h9 => exact h9.elim
  | .inr (.inr (.inr (.inl f))), hs, h9 => exact h9.elim
theorem fx_new {ci : Nat} {Cn : String} {T : u_T} {N : Nat} {ty : Nat → FieldType} {index : Nat} (hI : am_inf ci Cn T N ty) (hcl : Cond.classLink M.1.cls index Cn ∈ lw_all) (hinst : Cond.instantiable Cn N ∈ lw_all) (hini : Cond.initialized Cn ∈ lw_all) (hdg : decode M.2.1 pc = .ok (.new index, 3)) {K : Nat → am_S → Prop} (h : f_new G σ ci N ty K) (kk : ∀ a σ', K a σ' → am_Wp G M (pc + 3) d L (va_rf (some a) :: rest) σ' Q) : am_Wp G M pc d L rest σ Q :=
  am_new hI hcl hinst hini hdg h.1 h.2.1 (kk _ _ h.2.2)
theorem fx_nai {τ : Nat} {atype : ArrayType} {n : Int32} (harr : Cond.arrayClass (newarray.typeOf atype) ∈ lw_all) (ht : am_tyl[τ]? = some (newarray.typeOf atype)) (hx0 : ∀ (N : Nat) (cA : ClassId), vp_cell cA (f_a0i N) = arrV cA N (fun _ => defaultValue (newarray.typeOf atype))) (hdg : decode M.2.1 pc = .ok (.newarray atype, 2)) {K : Nat → am_S → Prop} (h : f_na G σ τ f_a0i n K) (kk : ∀ a σ', K a σ' → am_Wp G M (pc + 2) d L (va_rf (some a) :: rest) σ' Q) : am_Wp G M pc d L (.int n :: rest) σ Q := by
  obtain ⟨N, hn, hN, h1, h2, h3⟩ := h
  exact am_newarray (x := f_a0i N) harr ht (hx0 N) hn hN hdg h1 h2 (kk _ _ h3)
theorem fx_naj {τ : Nat} {atype : ArrayType} {n : Int32} (harr : Cond.arrayClass (newarray.typeOf atype) ∈ lw_all) (ht : am_tyl[τ]? = some (newarray.typeOf atype)) (hx0 : ∀ (N : Nat) (cA : ClassId), vp_cell cA (f_a0j N) = arrV cA N (fun _ => defaultValue (newarray.typeOf atype))) (hdg : decode M.2.1 pc = .ok (.newarray atype, 2)) {K : Nat → am_S → Prop} (h : f_na G σ τ f_a0j n K) (kk : ∀ a σ', K a σ' → am_Wp G M (pc + 2) d L (va_rf (some a) :: rest) σ' Q) : am_Wp G M pc d L (.int n :: rest) σ Q := by
  obtain ⟨N, hn, hN, h1, h2, h3⟩ := h
  exact am_newarray (x := f_a0j N) harr ht (hx0 N) hn hN hdg h1 h2 (kk _ _ h3)
theorem fx_nar {index τ : Nat} {Cn : String} {n : Int32} (hlink : Cond.classLink M.1.cls index Cn ∈ lw_all) (hover : Cond.arrayOver (.object Cn) ∈ lw_tbl) (ht : am_tyl[τ]? = some (.object Cn)) (hdg : decode M.2.1 pc = .ok (.anewarray index, 3)) {K : Nat → am_S → Prop} (h : f_na G σ τ f_a0r n K) (kk : ∀ a σ', K a σ' → am_Wp G M (pc + 3) d L (va_rf (some a) :: rest) σ' Q) : am_Wp G M pc d L (.int n :: rest) σ Q := by
  obtain ⟨N, hn, hN, h1, h2, h3⟩ := h
  exact am_anewarray hlink hover ht hn hN hdg h1 h2 (kk _ _ h3)
theorem fx_cpi {index τ : Nat} {ty : FieldType} {r0 r1 : Option Nat} {sp dp n : Int32} (hlink : Cond.methodLink M.1.cls index arraycopyName ∈ lw_all) (hnat : Cond.native arraycopyName ∈ lw_all) (hstat : Cond.static arraycopyName ∈ lw_all) (hini : Cond.initialized "java/lang/System" ∈ lw_all) (ht : am_tyl[τ]? = some ty) (hprim : refKind ty = false) (hst : rest.length ≤ 8) (hdg : decode M.2.1 pc = .ok (.invokestatic index, 3)) {K : am_S → Prop} (h : f_cpi σ r0 sp r1 dp n τ ty K) (kk : ∀ σ', K σ' → am_Wp G M (pc + 3) (d + 1) L rest σ' Q) : am_Wp G M pc (d + 1) L (.int n :: .int dp :: va_rf r1 :: .int sp :: va_rf r0 :: rest) σ Q := by
  obtain ⟨a0, ⟨n0, x⟩, rfl, hs0, h⟩ := f_a_of h
  obtain ⟨a1, ⟨n1, y⟩, rfl, hs1, h1, h2, h3, h4, h5, h9⟩ := f_a_of h
  match x, y, hs0, hs1, h9 with
  | .inl f, .inl g, hs0, hs1, h9 => exact am_acopyi hlink hnat hstat hini ht hprim hs0 hs1 h1 h2 h3 h4 h5 h9.1 hst hdg (kk _ h9.2)
  | .inr f, .inl g, hs0, hs1, h9 => exact h9.elim
  | .inr f, .inr g, hs0, hs1, h9 => exact h9.elim
  | .inl f, .inr g, hs0, hs1, h9 => exact h9.elim
theorem fx_cpr {index τ : Nat} {E : String} {cs : List Nat} {r0 r1 : Option Nat} {sp dp n : Int32} (hlink : Cond.methodLink M.1.cls index arraycopyName ∈ lw_all) (hnat : Cond.native arraycopyName ∈ lw_all) (hstat : Cond.static arraycopyName ∈ lw_all) (hini : Cond.initialized "java/lang/System" ∈ lw_all) (ht : am_tyl[τ]? = some (.object E)) (hcs : am_may E cs) (hst : rest.length ≤ 8) (hdg : decode M.2.1 pc = .ok (.invokestatic index, 3)) {K : am_S → Prop} (h : f_cpr σ r0 sp r1 dp n τ cs K) (kk : ∀ σ', K σ' → am_Wp G M (pc + 3) (d + 1) L rest σ' Q) : am_Wp G M pc (d + 1) L (.int n :: .int dp :: va_rf r1 :: .int sp :: va_rf r0 :: rest) σ Q := by
  obtain ⟨a0, ⟨n0, x⟩, rfl, hs0, h⟩ := f_a_of h
  obtain ⟨a1, ⟨n1, y⟩, rfl, hs1, h1, h2, h3, h4, h5, h9⟩ := f_a_of h
  have key : ∃ f g, x = .inr (.inr (.inr (.inr f))) ∧ y = .inr (.inr (.inr (.inr g))) := by
    revert h9
    rcases x with f | f | f | f | f <;> rcases y with g | g | g | g | g <;> intro h9 <;> first | exact ⟨_, _, rfl, rfl⟩ | exact h9.elim
  obtain ⟨f, g, rfl, rfl⟩ := key
  refine am_acopyq hlink hnat hstat hini ht hcs hs0 hs1 h1 h2 h3 h4 h5 (fun i hi b hb => ?_) hst hdg (kk _ h9.2)
  obtain ⟨b', ci, fv, hb', hsb, hc, -⟩ := f_c_of (h9.1 i hi b hb)
  cases hb'
  exact ⟨ci, fv, hc, hsb⟩
theorem fx_cc {index : Nat} {cs : List Nat} {nm : String} {r : Option Nat} (hcs : f_cls cs fun Cn => Cn = nm ∨ Cond.castable Cn nm ∈ lw_tbl) (hlink : Cond.classLink M.1.cls index nm ∈ lw_all) (hdg : decode M.2.1 pc = .ok (.checkcast index, 3)) {K : Prop} (h : f_k σ r cs K) (kk : K → am_Wp G M (pc + 3) d L (va_rf r :: rest) σ Q) : am_Wp G M pc d L (va_rf r :: rest) σ Q := by
  obtain ⟨a, ci, f, rfl, hs, hc, h9⟩ := f_c_of h
  obtain ⟨Cn, T, N, ty, hI, hP⟩ := hcs ci hc
  exact am_checkcast hI hs hlink hP hdg (kk h9)
theorem fx_is {index : Nat} {ys ns : List Nat} {nm : String} {r : Option Nat} (hys : f_cls ys fun Cn => Cn = nm ∨ Cond.castable Cn nm ∈ lw_tbl) (hns : f_cls ns fun Cn => (Cn, nm) ∈ am_ncs) (hlink : Cond.classLink M.1.cls index nm ∈ lw_all) (hdg : decode M.2.1 pc = .ok (.instanceof index, 3)) {K : Int32 → Prop} (h : f_is σ r ys ns K) (kk : ∀ x, K x → am_Wp G M (pc + 3) d L (.int x :: rest) σ Q) : am_Wp G M pc d L (va_rf r :: rest) σ Q := by
  obtain ⟨a, ci, f, rfl, hs, hc, h1, h0⟩ := f_c_of h
  by_cases hy : ci ∈ ys
  · obtain ⟨Cn, T, N, ty, hI, hP⟩ := hys ci hy
    exact am_instY hI hs hlink hP hdg (kk _ (h1 hy))
  · obtain ⟨Cn, T, N, ty, hI, hP⟩ := hns ci (hc.resolve_left hy)
    exact am_instNo hI hs hlink hP hdg (kk _ (h0 hy))
end
