set_option maxRecDepth 100000
/-! ===== formulas, the second part: calls, throws, constants ===== -/
/-- the object r, of one of the classes cs -/
def f_o (σ : am_S) (r : Option Nat) (cs : List Nat) (K : Nat → Prop) : Prop := f_c σ r fun ci _ a => ci ∈ cs ∧ K a
def f_nn (r : Option Nat) (K : Nat → Prop) : Prop := match r with
  | some a => K a
  | none => False
def f_sti (G : am_G) (i : Nat) (K : Int32 → Prop) : Prop := match am_st G i with
  | .int x => K x
  | _ => False
def f_str (G : am_G) (i : Nat) (K : Option Nat → Prop) : Prop := match am_st G i with
  | .ref a => K (some a)
  | .null => K none
  | _ => False
def f_Gi (G : am_G) (σ : am_S) (r : Option Nat) (k : Nat) (K : Int32 → Prop) : Prop := f_gi σ r [35] k K ∨ ∃ i, i < 23 ∧ r = some (am_sk G i) ∧ k = 1 ∧ K 0
def f_Gr (G : am_G) (σ : am_S) (r : Option Nat) (k : Nat) (K : Option Nat → Prop) : Prop := f_gr σ r [35] k K ∨ ∃ i, i < 23 ∧ r = some (am_sk G i) ∧ k = 0 ∧ K (some (am_sv G i))
def f_Gal (G : am_G) (σ : am_S) (r : Option Nat) (τ : Nat) (K : Int32 → Prop) : Prop := f_al σ r τ K ∨ (∃ i, i < 23 ∧ r = some (am_sv G i) ∧ K (nI (am_txs.getD i "").length)) ∨ (va_rf r = am_st G 1 ∧ K 0)
def f_Gai (G : am_G) (σ : am_S) (r : Option Nat) (i : Int32) (K : Int32 → Prop) : Prop := f_ai σ r 1 i K ∨ ∃ j, j < 23 ∧ r = some (am_sv G j) ∧ vp_in i (am_txs.getD j "").length ∧ K (am_byte j i.toNatClampNeg)
def f_Go (G : am_G) (σ : am_S) (r : Option Nat) (K : Nat → Prop) : Prop := f_o σ r [35] K ∨ ∃ i, i < 23 ∧ r = some (am_sk G i) ∧ K (am_sk G i)
def f_Gk (G : am_G) (σ : am_S) (r : Option Nat) (K : Prop) : Prop := f_k σ r [35] K ∨ ∃ i, i < 23 ∧ r = some (am_sk G i) ∧ K
def f_sK (G : am_G) (σ : am_S) (r : Option Nat) (i : Int32) (j : Nat) (K : am_S → Prop) : Prop := f_a σ r 5 fun y a => vp_in i y.1 ∧ match y.2 with
  | .inr (.inr (.inr (.inr f))) => K (am_up σ a (.inl (5, y.1, .inr (.inr (.inr (.inr (va_up f i.toNatClampNeg (some (am_sk G j)))))))))
  | _ => False
def f_sA (σ : am_S) (r : Option Nat) (τ t : Nat) (i : Int32) (v : Option Nat) (K : am_S → Prop) : Prop := f_a σ r τ fun y a => vp_in i y.1 ∧ (f_a σ v t fun _ _ => True) ∧ match y.2 with
  | .inr (.inr (.inr (.inr f))) => K (am_up σ a (.inl (τ, y.1, .inr (.inr (.inr (.inr (va_up f i.toNatClampNeg v)))))))
  | _ => False
def f_mna (G : am_G) (σ : am_S) (τ t : Nat) (x : Nat → vp_A) (n k : Int32) (K : Nat → am_S → Prop) : Prop := ∃ N M : Nat, n = nI N ∧ k = nI M ∧ N ≤ 65536 ∧ M ≤ 65536 ∧ σ.2.1 + 1 + N ≤ am_bc G ∧ σ.2.2 + (N + N * M) ≤ am_bs G ∧ K σ.2.1 (am_mn σ τ t N M (x M))
def f_cl (G : am_G) (σ : am_S) (r : Option Nat) (τ : Nat) (K : Nat → am_S → Prop) : Prop := f_a σ r τ fun x _ => σ.2.1 + 1 ≤ am_bc G ∧ σ.2.2 + x.1 ≤ am_bs G ∧ match x.2 with
  | .inl _ => K σ.2.1 (am_nw σ (.inl (τ, x)) x.1)
  | _ => False
def f_ca (σ : am_S) (r : Option Nat) (τ : Nat) (K : Prop) : Prop := f_a σ r τ fun _ _ => K
def f_gc (G : am_G) (σ : am_S) (r : Option Nat) (K : Option Nat → Prop) : Prop := f_a σ r 16 fun _ _ => K (some (am_sk G 23))
/-! the sites of classes, fields -/
theorem f_cls0 {P : String → Prop} : f_cls [] P := fun _ h => by cases h
theorem f_clsC {c : Nat} {cs : List Nat} {P : String → Prop} {Cn : String} {T : u_T} {N : Nat} {ty : Nat → FieldType} (hI : am_inf c Cn T N ty) (h : P Cn) (hs : f_cls cs P) : f_cls (c :: cs) P := fun ci hc => by
  rcases List.mem_cons.mp hc with rfl | h9
  · exact ⟨Cn, T, N, ty, hI, h⟩
  · exact hs ci h9
theorem f_fld0 {own : String} {index k : Nat} {w : Bool} : f_fld own index [] k w := fun _ h => by cases h
theorem f_fldC {own ref : String} {index c k : Nat} {w : Bool} {cs : List Nat} {Cn : String} {T : u_T} {N : Nat} {ty : Nat → FieldType} (hI : am_inf c Cn T N ty) (hk : k < N) (h1 : Cond.fieldLink own index ref (T k).2.1 (T k).2.2.1 ∈ lw_all) (h2 : ref = (T k).1 ∨ (w = false ∧ Cond.sameField ref (T k).1 (T k).2.1 (T k).2.2.1 ∈ lw_all)) (hs : f_fld own index cs k w) : f_fld own index (c :: cs) k w := fun ci hc => by
  rcases List.mem_cons.mp hc with rfl | h9
  · exact ⟨Cn, T, N, ty, ref, hI, hk, Or.inl ⟨h1, h2⟩⟩
  · exact hs ci h9
theorem f_fldN {own ref host : String} {index c k : Nat} {w : Bool} {cs : List Nat} {Cn : String} {T : u_T} {N : Nat} {ty : Nat → FieldType} (hI : am_inf c Cn T N ty) (hk : k < N) (h1 : Cond.fieldLinkNest own index ref (T k).2.1 (T k).2.2.1 host ∈ lw_tbl) (h2 : ref = (T k).1) (hs : f_fld own index cs k w) : f_fld own index (c :: cs) k w := fun ci hc => by
  rcases List.mem_cons.mp hc with rfl | h9
  · exact ⟨Cn, T, N, ty, ref, hI, hk, Or.inr ⟨host, h1, h2⟩⟩
  · exact hs ci h9
theorem f_put0 {M : am_M} {index k : Nat} {v : Value} : f_put M index [] k v := fun _ h => by cases h
theorem f_putC {M : am_M} {index c k : Nat} {v : Value} {cs : List Nat} {Cn : String} {T : u_T} {N : Nat} {ty : Nat → FieldType} (hI : am_inf c Cn T N ty) (hk : k < N) (hn : narrow (ty k) v = v) (hfi : fits (ty k) v = true) (h1 : Cond.fieldLink M.1.cls index (T k).1 (T k).2.1 (T k).2.2.1 ∈ lw_all) (h2 : (T k).2.2.2 = false ∨ ((T k).2.2.2 = true ∧ M.1.name = "<init>" ∧ (T k).1 = M.1.cls)) (hs : f_put M index cs k v) : f_put M index (c :: cs) k v := fun ci hc => by
  rcases List.mem_cons.mp hc with rfl | h9
  · exact ⟨Cn, T, N, ty, hI, hk, hn, hfi, Or.inl ⟨h1, h2⟩⟩
  · exact hs ci h9
theorem f_putN {M : am_M} {host : String} {index c k : Nat} {v : Value} {cs : List Nat} {Cn : String} {T : u_T} {N : Nat} {ty : Nat → FieldType} (hI : am_inf c Cn T N ty) (hk : k < N) (hn : narrow (ty k) v = v) (hfi : fits (ty k) v = true) (h1 : Cond.fieldLinkNest M.1.cls index (T k).1 (T k).2.1 (T k).2.2.1 host ∈ lw_tbl) (h2 : (T k).2.2.2 = false) (hs : f_put M index cs k v) : f_put M index (c :: cs) k v := fun ci hc => by
  rcases List.mem_cons.mp hc with rfl | h9
  · exact ⟨Cn, T, N, ty, hI, hk, hn, hfi, Or.inr ⟨host, h1, h2⟩⟩
  · exact hs ci h9
theorem f_nrf (C : String) (r : Option Nat) : narrow (.object C) (va_rf r) = va_rf r := by cases r <;> rfl
theorem f_nra (t : FieldType) (r : Option Nat) : narrow (.array t) (va_rf r) = va_rf r := by cases r <;> rfl
theorem f_frf (C : String) (r : Option Nat) : fits (.object C) (va_rf r) = true := by cases r <;> rfl
theorem f_fra (t : FieldType) (r : Option Nat) : fits (.array t) (va_rf r) = true := by cases r <;> rfl
theorem f_nz {x : Int32} (h : x = 0 ∨ x = 1) : narrow .boolean (.int x) = .int x := by rcases h with rfl | rfl <;> rfl
theorem f_fz {x : Int32} (h : x = 0 ∨ x = 1) : fits .boolean (.int x) = true := by rcases h with rfl | rfl <;> rfl
section
variable {G : am_G} {M : am_M} {pc d : Nat} {L : List (Nat × Value)} {rest : List Value} {σ : am_S} {Q : am_R → am_S → Prop}
theorem fx_sti {index i : Nat} {C n t : String} (hi : am_stl[i]? = some (C, n, t)) (hlink : Cond.fieldLink M.1.cls index C n t ∈ lw_all) (hdg : decode M.2.1 pc = .ok (.getstatic index, 3)) {K : Int32 → Prop} (h : f_sti G i K) (kk : ∀ x, K x → am_Wp G M (pc + 3) d L (.int x :: rest) σ Q) : am_Wp G M pc d L rest σ Q := by
  refine am_getstatic hi hlink hdg ?_
  unfold f_sti at h
  cases hv : am_st G i with
  | int x => rw [hv] at h; exact kk x h
  | _ => rw [hv] at h; exact h.elim
theorem fx_str {index i : Nat} {C n t : String} (hi : am_stl[i]? = some (C, n, t)) (hlink : Cond.fieldLink M.1.cls index C n t ∈ lw_all) (hdg : decode M.2.1 pc = .ok (.getstatic index, 3)) {K : Option Nat → Prop} (h : f_str G i K) (kk : ∀ x, K x → am_Wp G M (pc + 3) d L (va_rf x :: rest) σ Q) : am_Wp G M pc d L rest σ Q := by
  refine am_getstatic hi hlink hdg ?_
  unfold f_str at h
  cases hv : am_st G i with
  | ref x => rw [hv] at h; exact kk (some x) h
  | null => rw [hv] at h; exact kk none h
  | _ => rw [hv] at h; exact h.elim
theorem fx_Gi {index k : Nat} {r : Option Nat} (hf : f_fld M.1.cls index [35] k false) (hl : k = 1 → Cond.fieldLink M.1.cls index "java/lang/String" "coder" "B" ∈ lw_all) (hdg : decode M.2.1 pc = .ok (.getfield index, 3)) {K : Int32 → Prop} (h : f_Gi G σ r k K) (kk : ∀ x, K x → am_Wp G M (pc + 3) d L (.int x :: rest) σ Q) : am_Wp G M pc d L (va_rf r :: rest) σ Q := by
  rcases h with h | ⟨i, hi, rfl, hk, h⟩
  · exact fx_gi hf hdg h kk
  · exact am_getKc hi (hl hk) hdg (kk _ h)
theorem fx_Gr {index k : Nat} {r : Option Nat} (hf : f_fld M.1.cls index [35] k false) (hl : k = 0 → Cond.fieldLink M.1.cls index "java/lang/String" "value" "[B" ∈ lw_all) (hdg : decode M.2.1 pc = .ok (.getfield index, 3)) {K : Option Nat → Prop} (h : f_Gr G σ r k K) (kk : ∀ x, K x → am_Wp G M (pc + 3) d L (va_rf x :: rest) σ Q) : am_Wp G M pc d L (va_rf r :: rest) σ Q := by
  rcases h with h | ⟨i, hi, rfl, hk, h⟩
  · exact fx_gr hf hdg h kk
  · exact am_getKv hi (hl hk) hdg (kk _ h)
theorem fx_Gal {τ : Nat} {ty : FieldType} {r : Option Nat} (ht : am_tyl[τ]? = some ty) (hdg : decode M.2.1 pc = .ok (.arraylength, 1)) {K : Int32 → Prop} (h : f_Gal G σ r τ K) (kk : ∀ x, K x → am_Wp G M (pc + 1) d L (.int x :: rest) σ Q) : am_Wp G M pc d L (va_rf r :: rest) σ Q := by
  rcases h with h | ⟨i, hi, rfl, h⟩ | ⟨h1, h⟩
  · exact fx_al ht hdg h kk
  · exact am_alenK hi hdg (kk _ h)
  · intro p e R s m args below meth c H locs cells slots ls C
    obtain ⟨t, h2, -⟩ := C.2.2.2.2.2.2.2.2.2.2.2.2.2.2.1
    rw [h1, h2]
    exact am_alenE h2 hdg (kk _ h) p e R s m args below meth c H locs cells slots ls C
theorem fx_Gai {r : Option Nat} {i : Int32} (hdg : decode M.2.1 pc = .ok (.baload, 1)) {K : Int32 → Prop} (h : f_Gai G σ r i K) (kk : ∀ x, K x → am_Wp G M (pc + 1) d L (.int x :: rest) σ Q) : am_Wp G M pc d L (.int i :: va_rf r :: rest) σ Q := by
  rcases h with h | ⟨j, hj, rfl, hin, h⟩
  · exact fx_ai1 hdg h kk
  · exact am_baldK hj hdg hin (kk _ h)
theorem fx_Gcc {index : Nat} {r : Option Nat} (hlink : Cond.classLink M.1.cls index "java/lang/String" ∈ lw_all) (hdg : decode M.2.1 pc = .ok (.checkcast index, 3)) {K : Prop} (h : f_Gk G σ r K) (kk : K → am_Wp G M (pc + 3) d L (va_rf r :: rest) σ Q) : am_Wp G M pc d L (va_rf r :: rest) σ Q := by
  rcases h with h | ⟨i, hi, rfl, h⟩
  · exact fx_cc (f_clsC inf_J4 (Or.inl rfl) f_cls0) hlink hdg h kk
  · exact am_ccK hi hlink hdg (kk h)
theorem fx_Gis {index : Nat} {r : Option Nat} (hlink : Cond.classLink M.1.cls index "java/lang/String" ∈ lw_all) (hdg : decode M.2.1 pc = .ok (.instanceof index, 3)) {K : Prop} (h : f_Gk G σ r K) (kk : K → am_Wp G M (pc + 3) d L (.int 1 :: rest) σ Q) : am_Wp G M pc d L (va_rf r :: rest) σ Q := by
  rcases h with h | ⟨i, hi, rfl, h⟩
  · obtain ⟨a, ci, f, rfl, hs, hc, h9⟩ := f_c_of h
    rw [List.mem_singleton.mp hc] at hs
    exact am_instY inf_J4 hs hlink (Or.inl rfl) hdg (kk h9)
  · exact am_inK hi hlink hdg (kk h)
theorem fx_sK {j : Nat} {r : Option Nat} {i : Int32} (hj : j < 23) (hdg : decode M.2.1 pc = .ok (.aastore, 1)) {K : am_S → Prop} (h : f_sK G σ r i j K) (kk : ∀ σ', K σ' → am_Wp G M (pc + 1) d L rest σ' Q) : am_Wp G M pc d L (va_rf (some (am_sk G j)) :: .int i :: va_rf r :: rest) σ Q := by
  obtain ⟨a, ⟨n, y⟩, rfl, hs, hi, h9⟩ := f_a_of h
  match y, hs, h9 with
  | .inr (.inr (.inr (.inr f))), hs, h9 => exact am_aastK hj hdg hs hi (kk _ h9)
  | .inl f, hs, h9 => exact h9.elim
  | .inr (.inl f), hs, h9 => exact h9.elim
  | .inr (.inr (.inl f)), hs, h9 => exact h9.elim
  | .inr (.inr (.inr (.inl f))), hs, h9 => exact h9.elim
theorem fx_sA {τ t : Nat} {ty : FieldType} {r v : Option Nat} {i : Int32} (hdg : decode M.2.1 pc = .ok (.aastore, 1)) (ht : am_tyl[τ]? = some (.array ty)) (ht' : am_tyl[t]? = some ty) (hover : Cond.arrayOver (.array ty) ∈ lw_tbl) (hra : ∀ s : State, va_RA s (am_c G τ) (.array ty) → s.vm.findClass ("[" ++ (FieldType.array ty).toString) = some (am_c G τ)) (hrb : ∀ s : State, va_RA s (am_c G t) ty → s.vm.findClass (FieldType.array ty).toString = some (am_c G t)) {K : am_S → Prop} (h : f_sA σ r τ t i v K) (kk : ∀ σ', K σ' → am_Wp G M (pc + 1) d L rest σ' Q) : am_Wp G M pc d L (va_rf v :: .int i :: va_rf r :: rest) σ Q := by
  obtain ⟨a, ⟨n, y⟩, rfl, hs, hi, hv, h9⟩ := f_a_of h
  obtain ⟨b, x, rfl, hb, -⟩ := f_a_of hv
  match y, hs, h9 with
  | .inr (.inr (.inr (.inr f))), hs, h9 => exact am_aastA hdg ht ht' hover hra hrb hs hb hi (kk _ h9)
  | .inl f, hs, h9 => exact h9.elim
  | .inr (.inl f), hs, h9 => exact h9.elim
  | .inr (.inr (.inl f)), hs, h9 => exact h9.elim
  | .inr (.inr (.inr (.inl f))), hs, h9 => exact h9.elim
theorem fx_naA {index τ : Nat} {ty : FieldType} {nm : String} {n : Int32} (hlink : Cond.classLink M.1.cls index nm ∈ lw_all) (hnm : (FieldType.array ty).toString = nm) (hover : Cond.arrayOver (.array ty) ∈ lw_tbl) (ht : am_tyl[τ]? = some (.array ty)) (hra : ∀ s : State, va_RA s (am_c G τ) (.array ty) → s.vm.findClass ("[" ++ (FieldType.array ty).toString) = some (am_c G τ)) (hdg : decode M.2.1 pc = .ok (.anewarray index, 3)) {K : Nat → am_S → Prop} (h : f_na G σ τ f_a0r n K) (kk : ∀ a σ', K a σ' → am_Wp G M (pc + 3) d L (va_rf (some a) :: rest) σ' Q) : am_Wp G M pc d L (.int n :: rest) σ Q := by
  obtain ⟨N, hn, hN, h1, h2, h3⟩ := h
  exact am_anewA hlink hnm hover ht hra hn hN hdg h1 h2 (kk _ _ h3)
theorem fx_mna {index τ t : Nat} {ty : FieldType} {nm : String} {n k : Int32} {x : Nat → vp_A} (hlink : Cond.classLink M.1.cls index nm ∈ lw_all) (hnm : "[" ++ (FieldType.array ty).toString = nm) (hover : Cond.arrayOver (.array ty) ∈ lw_tbl) (harr : Cond.arrayClass ty ∈ lw_all) (ht : am_tyl[τ]? = some (.array ty)) (ht' : am_tyl[t]? = some ty) (hra : ∀ s : State, va_RA s (am_c G τ) (.array ty) → s.vm.findClass ("[" ++ (FieldType.array ty).toString) = some (am_c G τ)) (hrb : ∀ s : State, va_RA s (am_c G t) ty → s.vm.findClass (FieldType.array ty).toString = some (am_c G t))
    (hx0 : ∀ (N : Nat) (cA : ClassId), vp_cell cA (x N) = { cls := cA, slots := Array.replicate N (defaultValue ty), vm := .none }) (hxK : ∀ N, (x N).1 = N) (hdf : fits ty (defaultValue ty) = true) (hdd : (defaultValue ty).isDefault = true) (hcb : componentBytes ty ≤ 8) (hdg : decode M.2.1 pc = .ok (.multianewarray index 2, 4)) {K : Nat → am_S → Prop} (h : f_mna G σ τ t x n k K) (kk : ∀ a σ', K a σ' → am_Wp G M (pc + 4) d L (va_rf (some a) :: rest) σ' Q) : am_Wp G M pc d L (.int k :: .int n :: rest) σ Q := by
  obtain ⟨N, N2, hn, hk, hN, hK, h1, h2, h3⟩ := h
  exact am_mna hlink hnm hover harr ht ht' hra hrb (hx0 N2) (hxK N2) hdf hdd hcb hn hk hN hK hdg h1 h2 (kk _ _ h3)
theorem fx_cl {index τ : Nat} {ty : FieldType} {ad : String} {r : Option Nat} (ht : am_tyl[τ]? = some ty) (hnm : ∀ s : State, va_RA s (am_c G τ) ty → s.vm.findClass ad = some (am_c G τ)) (hty : ty = .int)
    (hlink : Cond.methodLink M.1.cls index ⟨ad, "clone", "()Ljava/lang/Object;"⟩ ∈ lw_all) (hsame : Cond.sameMethod ad "java/lang/Object" "clone" "()Ljava/lang/Object;" ∈ lw_all) (hnat : Cond.native ⟨"java/lang/Object", "clone", "()Ljava/lang/Object;"⟩ ∈ lw_all) (hinst : Cond.instanceMethod ⟨"java/lang/Object", "clone", "()Ljava/lang/Object;"⟩ ∈ lw_all)
    (hsel : Cond.selects ad ⟨ad, "clone", "()Ljava/lang/Object;"⟩ ⟨"java/lang/Object", "clone", "()Ljava/lang/Object;"⟩ ∈ lw_all) (hcl : Cond.castable ad "java/lang/Cloneable" ∈ lw_tbl) (hst : rest.length ≤ 8) (hdg : decode M.2.1 pc = .ok (.invokevirtual index, 3)) {K : Nat → am_S → Prop} (h : f_cl G σ r τ K) (kk : ∀ a σ', K a σ' → am_Wp G M (pc + 3) (d + 1) L (va_rf (some a) :: rest) σ' Q) : am_Wp G M pc (d + 1) L (va_rf r :: rest) σ Q := by
  obtain ⟨a, ⟨n, x⟩, rfl, hs, h1, h2, h9⟩ := f_a_of h
  subst hty
  match x, hs, h9 with
  | .inl f, hs, h9 =>
    refine am_clone ht hnm hs (fun cA i v hv => ?_) hlink hsame hnat hinst hsel hcl hst hdg h1 h2 (kk _ _ h9)
    exact va_fit (cA := cA) (n := n) (F := fun j => .int (f j)) (ty := .int) (fun i _ => rfl) i v hv
  | .inr f, hs, h9 => exact h9.elim
theorem fx_ca {index τ : Nat} {ty : FieldType} {nm : String} {r : Option Nat} (ht : am_tyl[τ]? = some ty) (hnm : ∀ s : State, va_RA s (am_c G τ) ty → s.vm.findClass nm = some (am_c G τ)) (hlink : Cond.classLink M.1.cls index nm ∈ lw_all) (hdg : decode M.2.1 pc = .ok (.checkcast index, 3)) {K : Prop} (h : f_ca σ r τ K) (kk : K → am_Wp G M (pc + 3) d L (va_rf r :: rest) σ Q) : am_Wp G M pc d L (va_rf r :: rest) σ Q := by
  obtain ⟨a, x, rfl, hs, h9⟩ := f_a_of h
  exact am_castA ht hnm hs hlink hdg (kk h9)
theorem fx_gc {index : Nat} {r : Option Nat} (hlink : Cond.methodLink M.1.cls index ⟨"java/lang/Object", "getClass", "()Ljava/lang/Class;"⟩ ∈ lw_all) (hdecl : Cond.declares ⟨"java/lang/Object", "getClass", "()Ljava/lang/Class;"⟩ ∈ lw_tbl) (hsel : Cond.selects "[Ljava/lang/Object;" ⟨"java/lang/Object", "getClass", "()Ljava/lang/Class;"⟩ ⟨"java/lang/Object", "getClass", "()Ljava/lang/Class;"⟩ ∈ lw_all) (hinst : Cond.instanceMethod ⟨"java/lang/Object", "getClass", "()Ljava/lang/Class;"⟩ ∈ lw_all) (hnat : Cond.native ⟨"java/lang/Object", "getClass", "()Ljava/lang/Class;"⟩ ∈ lw_all) (hst : rest.length ≤ 8) (hdg : decode M.2.1 pc = .ok (.invokevirtual index, 3)) {K : Option Nat → Prop} (h : f_gc G σ r K) (kk : ∀ x, K x → am_Wp G M (pc + 3) (d + 1) L (va_rf x :: rest) σ Q) : am_Wp G M pc (d + 1) L (va_rf r :: rest) σ Q := by
  obtain ⟨a, x, rfl, hs, h9⟩ := f_a_of h
  exact am_getC (ty := .object "java/lang/Object") rfl hs rfl hlink hdecl hsel hinst hnat hst hdg (kk _ h9)
/-! ends of calls -/
theorem fx_k2i {Mc : am_M} {L' : List (Nat × Value)} {K : Int32 → am_S → Prop} {E : Nat → am_S → Prop} (h : am_Wp G Mc 0 d L' [] σ (f_qi K E)) (kk : ∀ v σ', K v σ' → am_Wp G M (pc + 3) (d + 1) L (.int v :: rest) σ' Q) (ke : ∀ q σ', E q σ' → am_Wx G M pc (d + 1) L σ' q Q) : am_Wp G Mc 0 d L' [] σ (am_K2 G M pc (d + 1) L rest Q) := by
  refine am_mono h fun r σ' h => ?_
  match r, h with
  | .inl (some (.int v)), h => exact kk v σ' h
  | .inr q, h => exact ke q σ' h
theorem fx_k2l {Mc : am_M} {L' : List (Nat × Value)} {K : Int64 → am_S → Prop} {E : Nat → am_S → Prop} (h : am_Wp G Mc 0 d L' [] σ (f_ql K E)) (kk : ∀ v σ', K v σ' → am_Wp G M (pc + 3) (d + 1) L (.long v :: rest) σ' Q) (ke : ∀ q σ', E q σ' → am_Wx G M pc (d + 1) L σ' q Q) : am_Wp G Mc 0 d L' [] σ (am_K2 G M pc (d + 1) L rest Q) := by
  refine am_mono h fun r σ' h => ?_
  match r, h with
  | .inl (some (.long v)), h => exact kk v σ' h
  | .inr q, h => exact ke q σ' h
theorem fx_k2r {Mc : am_M} {L' : List (Nat × Value)} {K : Option Nat → am_S → Prop} {E : Nat → am_S → Prop} (h : am_Wp G Mc 0 d L' [] σ (f_qr K E)) (kk : ∀ v σ', K v σ' → am_Wp G M (pc + 3) (d + 1) L (va_rf v :: rest) σ' Q) (ke : ∀ q σ', E q σ' → am_Wx G M pc (d + 1) L σ' q Q) : am_Wp G Mc 0 d L' [] σ (am_K2 G M pc (d + 1) L rest Q) := by
  refine am_mono h fun r σ' h => ?_
  match r, h with
  | .inl (some (.ref v)), h => exact kk (some v) σ' h
  | .inl (some .null), h => exact kk none σ' h
  | .inr q, h => exact ke q σ' h
theorem fx_k2v {Mc : am_M} {L' : List (Nat × Value)} {K : am_S → Prop} {E : Nat → am_S → Prop} (h : am_Wp G Mc 0 d L' [] σ (f_qv K E)) (kk : ∀ σ', K σ' → am_Wp G M (pc + 3) (d + 1) L rest σ' Q) (ke : ∀ q σ', E q σ' → am_Wx G M pc (d + 1) L σ' q Q) : am_Wp G Mc 0 d L' [] σ (am_K2 G M pc (d + 1) L rest Q) := by
  refine am_mono h fun r σ' h => ?_
  match r, h with
  | .inl none, h => exact kk σ' h
  | .inr q, h => exact ke q σ' h
theorem fx_aret {r : Option Nat} {rt : FieldType} {K : Option Nat → am_S → Prop} {E : Nat → am_S → Prop} (hr : M.2.2.2.1 = some rt) (hrt : rt.isReference = true) (hdg : decode M.2.1 pc = .ok (.areturn, 1)) (h : K r σ) : am_Wp G M pc d L [va_rf r] σ (f_qr K E) := by
  refine am_aret hr hrt hdg ?_
  cases r <;> exact h
/-! throws -/
theorem fx_throw {cs : List Nat} {r : Option Nat} (hdg : decode M.2.1 pc = .ok (.athrow, 1)) {K : Nat → Prop} (h : f_o σ r cs K) (kk : ∀ q, K q → am_Wx G M pc d L σ q Q) : am_Wp G M pc d L (va_rf r :: rest) σ Q := by
  obtain ⟨a, ci, f, rfl, hs, hc, h9⟩ := f_c_of h
  exact am_athrow hdg (kk a h9)
theorem fx_catch {q c0 : Nat} {Cn nm : String} {T : u_T} {N : Nat} {ty : Nat → FieldType} (pre suf : List ExceptionTableEntry) (x : ExceptionTableEntry) (hI : am_inf c0 Cn T N ty) (hsplit : tableOf M.2.2.2.2 = pre ++ x :: suf) (hpass : ∀ z ∈ pre, covers z pc = false) (hx : covers x pc = true) (h0 : x.catchType ≠ 0) (hlink : Cond.classLink M.1.cls x.catchType nm ∈ lw_all) (hcast : Cond.castable Cn nm ∈ lw_tbl ∨ Cn = nm) {K : Nat → Prop} (h : f_o σ (some q) [c0] K) (kk : K q → am_Wp G M x.handlerPc d L [va_rf (some q)] σ Q) : am_Wx G M pc d L σ q Q := by
  obtain ⟨a, ci, f, he, hs, hc, h9⟩ := f_c_of h
  cases he
  rw [List.mem_singleton.mp hc] at hs
  exact am_xcatch hI hsplit hpass hx h0 hlink hcast hs (kk h9)
theorem fx_any {q : Nat} {cs : List Nat} (pre suf : List ExceptionTableEntry) (x : ExceptionTableEntry) (hcs : f_cls cs fun _ => True) (hsplit : tableOf M.2.2.2.2 = pre ++ x :: suf) (hpass : ∀ z ∈ pre, covers z pc = false) (hx : covers x pc = true) (h0 : x.catchType = 0) {K : Nat → Prop} (h : f_o σ (some q) cs K) (kk : K q → am_Wp G M x.handlerPc d L [va_rf (some q)] σ Q) : am_Wx G M pc d L σ q Q := by
  obtain ⟨a, ci, f, he, hs, hc, h9⟩ := f_c_of h
  cases he
  obtain ⟨Cn, T, N, ty, hI, -⟩ := hcs ci hc
  exact am_xany hI hsplit hpass hx h0 hs (kk h9)
/-! calls -/
theorem fx_callV {Mc : am_M} {index : Nat} {as : List Value} {cs : List Nat} {r : Option Nat} (hcs : f_cls cs fun Cn => Cond.selects Cn Mc.1 Mc.1 ∈ lw_all) (hB : am_Bm Mc as.length (Cond.code Mc.1 Mc.2.1 Mc.2.2.1 Mc.2.2.2.1)) (hlink : Cond.methodLink M.1.cls index Mc.1 ∈ lw_all) (hinst : Cond.instanceMethod Mc.1 ∈ lw_all) (hst : rest.length ≤ 8) (hdg : decode M.2.1 pc = .ok (.invokevirtual index, 3)) {K : Nat → Prop} (h : f_o σ r cs K) (hm : ∀ b, K b → am_Mt G Mc d (Cond.code Mc.1 Mc.2.1 Mc.2.2.1 Mc.2.2.2.1) (va_rf (some b) :: as) σ (am_K2 G M pc (d + 1) L rest Q)) : am_Wp G M pc (d + 1) L (as.reverse ++ va_rf r :: rest) σ Q := by
  obtain ⟨a, ci, f, rfl, hs, hc, h9⟩ := f_c_of h
  obtain ⟨Cn, T, N, ty, hI, hsel⟩ := hcs ci hc
  exact am_callV hI hs (hm a h9) hlink hinst hsel hB.1 hB.2.1 hB.2.2.1 hB.2.2.2.1 hst hB.2.2.2.2 hdg
theorem fx_callVX {Mc : am_M} {index : Nat} {as : List Value} {cs : List Nat} {r : Option Nat} (hcs : f_cls cs fun Cn => Cond.selects Cn Mc.1 Mc.1 ∈ lw_all) (hB : am_Bm Mc as.length (Cond.codeWith Mc.1 Mc.2.1 Mc.2.2.1 Mc.2.2.2.1 Mc.2.2.2.2)) (hlink : Cond.methodLink M.1.cls index Mc.1 ∈ lw_all) (hinst : Cond.instanceMethod Mc.1 ∈ lw_all) (hst : rest.length ≤ 8) (hdg : decode M.2.1 pc = .ok (.invokevirtual index, 3)) {K : Nat → Prop} (h : f_o σ r cs K) (hm : ∀ b, K b → am_Mt G Mc d (Cond.codeWith Mc.1 Mc.2.1 Mc.2.2.1 Mc.2.2.2.1 Mc.2.2.2.2) (va_rf (some b) :: as) σ (am_K2 G M pc (d + 1) L rest Q)) : am_Wp G M pc (d + 1) L (as.reverse ++ va_rf r :: rest) σ Q := by
  obtain ⟨a, ci, f, rfl, hs, hc, h9⟩ := f_c_of h
  obtain ⟨Cn, T, N, ty, hI, hsel⟩ := hcs ci hc
  exact am_callVX hI hs (hm a h9) hlink hinst hsel hB.1 hB.2.1 hB.2.2.1 hB.2.2.2.1 hst hB.2.2.2.2 hdg
theorem fx_callVN {Mc : am_M} {index : Nat} {as : List Value} {cs : List Nat} {r : Option Nat} {host : String} (hcs : f_cls cs fun Cn => Cond.selects Cn Mc.1 Mc.1 ∈ lw_all) (hB : am_Bm Mc as.length (Cond.code Mc.1 Mc.2.1 Mc.2.2.1 Mc.2.2.2.1)) (hlink : Cond.methodLinkNest M.1.cls index Mc.1 host ∈ lw_tbl) (hinst : Cond.instanceMethod Mc.1 ∈ lw_all) (hst : rest.length ≤ 8) (hdg : decode M.2.1 pc = .ok (.invokevirtual index, 3)) {K : Nat → Prop} (h : f_o σ r cs K) (hm : ∀ b, K b → am_Mt G Mc d (Cond.code Mc.1 Mc.2.1 Mc.2.2.1 Mc.2.2.2.1) (va_rf (some b) :: as) σ (am_K2 G M pc (d + 1) L rest Q)) : am_Wp G M pc (d + 1) L (as.reverse ++ va_rf r :: rest) σ Q := by
  obtain ⟨a, ci, f, rfl, hs, hc, h9⟩ := f_c_of h
  obtain ⟨Cn, T, N, ty, hI, hsel⟩ := hcs ci hc
  exact am_callVN hI hs (hm a h9) hlink hinst hsel hB.1 hB.2.1 hB.2.2.1 hB.2.2.2.1 hst hB.2.2.2.2 hdg
theorem fx_callP {Mc : am_M} {index : Nat} {as : List Value} {cs : List Nat} {r : Option Nat} {C9 : String} {y9 : MethodName} (hcs : f_cls cs fun _ => True) (hB : am_Bm Mc as.length (Cond.code Mc.1 Mc.2.1 Mc.2.2.1 Mc.2.2.2.1)) (hlink : Cond.methodLink M.1.cls index Mc.1 ∈ lw_all) (hinst : Cond.instanceMethod Mc.1 ∈ lw_all) (hpriv : Cond.privateMethod Mc.1 ∈ lw_tbl) (hsel : Cond.selects C9 y9 y9 ∈ lw_all) (hy9 : y9.cls = Mc.1.cls) (hst : rest.length ≤ 8) (hdg : decode M.2.1 pc = .ok (.invokevirtual index, 3)) {K : Nat → Prop} (h : f_o σ r cs K) (hm : ∀ b, K b → am_Mt G Mc d (Cond.code Mc.1 Mc.2.1 Mc.2.2.1 Mc.2.2.2.1) (va_rf (some b) :: as) σ (am_K2 G M pc (d + 1) L rest Q)) : am_Wp G M pc (d + 1) L (as.reverse ++ va_rf r :: rest) σ Q := by
  obtain ⟨a, ci, f, rfl, hs, hc, h9⟩ := f_c_of h
  obtain ⟨Cn, T, N, ty, hI, -⟩ := hcs ci hc
  exact am_callP hI hs (hm a h9) hlink hinst hpriv hsel hy9 hB.1 hB.2.1 hB.2.2.1 hB.2.2.2.1 hst hB.2.2.2.2 hdg
theorem fx_callSup {Mc : am_M} {index : Nat} {as : List Value} {cs : List Nat} {r : Option Nat} (hcs : f_cls cs fun _ => True) (hB : am_Bm Mc as.length (Cond.code Mc.1 Mc.2.1 Mc.2.2.1 Mc.2.2.2.1)) (hlink : Cond.methodLink M.1.cls index Mc.1 ∈ lw_all) (hsame : Cond.sameMethod Mc.1.cls Mc.1.cls Mc.1.name Mc.1.desc ∈ lw_all) (hsup : Cond.superclass M.1.cls Mc.1.cls ∈ lw_all) (hinst : Cond.instanceMethod Mc.1 ∈ lw_all) (hno : Mc.1.name ≠ "<init>") (hst : rest.length ≤ 8) (hdg : decode M.2.1 pc = .ok (.invokespecial index, 3)) {K : Nat → Prop} (h : f_o σ r cs K) (hm : ∀ b, K b → am_Mt G Mc d (Cond.code Mc.1 Mc.2.1 Mc.2.2.1 Mc.2.2.2.1) (va_rf (some b) :: as) σ (am_K2 G M pc (d + 1) L rest Q)) : am_Wp G M pc (d + 1) L (as.reverse ++ va_rf r :: rest) σ Q := by
  obtain ⟨a, ci, f, rfl, hs, hc, h9⟩ := f_c_of h
  obtain ⟨Cn, T, N, ty, hI, -⟩ := hcs ci hc
  exact am_callSup hI hs (hm a h9) hlink hsame hsup hinst hno hB.1 hB.2.1 hB.2.2.1 hB.2.2.2.1 hst hdg
theorem fx_callVO {Mc : am_M} {index c0 : Nat} {as : List Value} {Cn owner : String} {x : MethodName} {r : Option Nat} {T : u_T} {N : Nat} {ty : Nat → FieldType} {b0 : ByteArray} {m0 : Nat} {r0 : Option FieldType} (hI : am_inf c0 Cn T N ty) (hsame : Cond.sameMethod x.cls owner x.name x.desc ∈ lw_all) (hdecl : Cond.instanceMethod ⟨owner, x.name, x.desc⟩ ∈ lw_all) (hdecl2 : Cond.code ⟨owner, x.name, x.desc⟩ b0 m0 r0 ∈ lw_all) (hsel : Cond.selects Cn x Mc.1 ∈ lw_all) (hxd : x.desc = Mc.1.desc) (hy : owner ≠ "java/lang/invoke/MethodHandle" ∧ owner ≠ "java/lang/invoke/VarHandle") (hB : am_Bm Mc as.length (Cond.code Mc.1 Mc.2.1 Mc.2.2.1 Mc.2.2.2.1)) (hlink : Cond.methodLink M.1.cls index x ∈ lw_all) (hinst : Cond.instanceMethod Mc.1 ∈ lw_all) (hst : rest.length ≤ 8) (hdg : decode M.2.1 pc = .ok (.invokevirtual index, 3)) {K : Nat → Prop} (h : f_o σ r [c0] K) (hm : ∀ b, K b → am_Mt G Mc d (Cond.code Mc.1 Mc.2.1 Mc.2.2.1 Mc.2.2.2.1) (va_rf (some b) :: as) σ (am_K2 G M pc (d + 1) L rest Q)) : am_Wp G M pc (d + 1) L (as.reverse ++ va_rf r :: rest) σ Q := by
  obtain ⟨a, ci, f, rfl, hs, hc, h9⟩ := f_c_of h
  rw [List.mem_singleton.mp hc] at hs
  exact am_callVO hI hs (hm a h9) hlink hsame hdecl hdecl2 hinst hsel hxd hB.1 hB.2.1 hB.2.2.1 hB.2.2.2.1 hst hy hdg
theorem fx_callVU {Mc : am_M} {index c0 a : Nat} {as : List Value} {Cn owner : String} {x : MethodName} {T : u_T} {N : Nat} {ty : Nat → FieldType} {f : Nat → Value} (hI : am_inf c0 Cn T N ty) (hs : σ.1 a = some (.inr (c0, f))) (hsame : Cond.sameMethod x.cls owner x.name x.desc ∈ lw_all) (hdecl : Cond.declares ⟨owner, x.name, x.desc⟩ ∈ lw_tbl) (hsel : Cond.selects Cn x Mc.1 ∈ lw_all) (hxd : x.desc = Mc.1.desc) (hy : owner ≠ "java/lang/invoke/MethodHandle" ∧ owner ≠ "java/lang/invoke/VarHandle") (hB : am_Bm Mc as.length (Cond.code Mc.1 Mc.2.1 Mc.2.2.1 Mc.2.2.2.1)) (hlink : Cond.methodLink M.1.cls index x ∈ lw_all) (hinst : Cond.instanceMethod Mc.1 ∈ lw_all) (hst : rest.length ≤ 8) (hdg : decode M.2.1 pc = .ok (.invokevirtual index, 3)) (hm : am_Mt G Mc d (Cond.code Mc.1 Mc.2.1 Mc.2.2.1 Mc.2.2.2.1) (va_rf (some a) :: as) σ (am_K2 G M pc (d + 1) L rest Q)) : am_Wp G M pc (d + 1) L (as.reverse ++ va_rf (some a) :: rest) σ Q :=
  am_callVU hI hs hm hlink hsame hdecl hinst hsel hxd hB.1 hB.2.1 hB.2.2.1 hB.2.2.2.1 hst hy hdg
theorem fx_callGo {Mc : am_M} {index : Nat} {as : List Value} {r : Option Nat} (hsel : Cond.selects "java/lang/String" Mc.1 Mc.1 ∈ lw_all) (hB : am_Bm Mc as.length (Cond.code Mc.1 Mc.2.1 Mc.2.2.1 Mc.2.2.2.1)) (hlink : Cond.methodLink M.1.cls index Mc.1 ∈ lw_all) (hinst : Cond.instanceMethod Mc.1 ∈ lw_all) (hst : rest.length ≤ 8) (hdg : decode M.2.1 pc = .ok (.invokevirtual index, 3)) {K : Nat → Prop} (h : f_Go G σ r K) (hm : ∀ b, K b → am_Mt G Mc d (Cond.code Mc.1 Mc.2.1 Mc.2.2.1 Mc.2.2.2.1) (va_rf (some b) :: as) σ (am_K2 G M pc (d + 1) L rest Q)) : am_Wp G M pc (d + 1) L (as.reverse ++ va_rf r :: rest) σ Q := by
  rcases h with h | ⟨i, hi, rfl, h⟩
  · exact fx_callV (f_clsC inf_J4 hsel f_cls0) hB hlink hinst hst hdg h hm
  · exact am_callVK hi (hm _ h) hlink hinst hsel hB.1 hB.2.1 hB.2.2.1 hB.2.2.2.1 hst hB.2.2.2.2 hdg
theorem fx_callS {Mc : am_M} {index : Nat} {as : List Value} (hB : am_Bm Mc as.length (Cond.code Mc.1 Mc.2.1 Mc.2.2.1 Mc.2.2.2.1)) (hlink : Cond.methodLink M.1.cls index Mc.1 ∈ lw_all) (hstat : Cond.static Mc.1 ∈ lw_all) (hst : rest.length ≤ 8) (hdg : decode M.2.1 pc = .ok (.invokestatic index, 3)) (hm : am_Mt G Mc d (Cond.code Mc.1 Mc.2.1 Mc.2.2.1 Mc.2.2.2.1) as σ (am_K2 G M pc (d + 1) L rest Q)) : am_Wp G M pc (d + 1) L (as.reverse ++ rest) σ Q :=
  am_callS hm hlink hstat hB.1 hB.2.1 hB.2.2.1 hB.2.2.2.1 hst hB.2.2.2.2 hdg
theorem fx_callSN {Mc : am_M} {index : Nat} {as : List Value} {host : String} (hB : am_Bm Mc as.length (Cond.code Mc.1 Mc.2.1 Mc.2.2.1 Mc.2.2.2.1)) (hlink : Cond.methodLinkNest M.1.cls index Mc.1 host ∈ lw_tbl) (hstat : Cond.static Mc.1 ∈ lw_all) (hst : rest.length ≤ 8) (hdg : decode M.2.1 pc = .ok (.invokestatic index, 3)) (hm : am_Mt G Mc d (Cond.code Mc.1 Mc.2.1 Mc.2.2.1 Mc.2.2.2.1) as σ (am_K2 G M pc (d + 1) L rest Q)) : am_Wp G M pc (d + 1) L (as.reverse ++ rest) σ Q :=
  am_callSN hm hlink hstat hB.1 hB.2.1 hB.2.2.1 hB.2.2.2.1 hst hB.2.2.2.2 hdg
theorem fx_callI {Mc : am_M} {index b : Nat} {as : List Value} (hB : am_Bm Mc as.length (Cond.code Mc.1 Mc.2.1 Mc.2.2.1 none)) (hlink : Cond.methodLink M.1.cls index Mc.1 ∈ lw_all) (hinst : Cond.instanceMethod Mc.1 ∈ lw_all) (hy1 : Mc.1.name = "<init>") (hrn : Mc.2.2.2.1 = none) (hst : rest.length ≤ 8) (hdg : decode M.2.1 pc = .ok (.invokespecial index, 3)) (hm : am_Mt G Mc d (Cond.code Mc.1 Mc.2.1 Mc.2.2.1 none) (va_rf (some b) :: as) σ (am_K2 G M pc (d + 1) L rest Q)) : am_Wp G M pc (d + 1) L (as.reverse ++ va_rf (some b) :: rest) σ Q :=
  am_callI hm hy1 hlink hinst hrn hB.1 hB.2.1 hB.2.2.1 hB.2.2.2.1 hst hB.2.2.2.2 hdg
theorem fx_callIN {Mc : am_M} {index b : Nat} {as : List Value} {host : String} (hB : am_Bm Mc as.length (Cond.code Mc.1 Mc.2.1 Mc.2.2.1 none)) (hlink : Cond.methodLinkNest M.1.cls index Mc.1 host ∈ lw_tbl) (hinst : Cond.instanceMethod Mc.1 ∈ lw_all) (hy1 : Mc.1.name = "<init>") (hrn : Mc.2.2.2.1 = none) (hst : rest.length ≤ 8) (hdg : decode M.2.1 pc = .ok (.invokespecial index, 3)) (hm : am_Mt G Mc d (Cond.code Mc.1 Mc.2.1 Mc.2.2.1 none) (va_rf (some b) :: as) σ (am_K2 G M pc (d + 1) L rest Q)) : am_Wp G M pc (d + 1) L (as.reverse ++ va_rf (some b) :: rest) σ Q :=
  am_callIN hm hy1 hlink hinst hrn hB.1 hB.2.1 hB.2.2.1 hB.2.2.2.1 hst hB.2.2.2.2 hdg
end
/-! the arguments' words -/
theorem am_sl0 : (lg_sl []).length ≤ 0 := Nat.le_refl 0
theorem am_slr {r : Option Nat} {vs : List Value} {n : Nat} (h : (lg_sl vs).length ≤ n) : (lg_sl (va_rf r :: vs)).length ≤ n + 1 := by
  cases r <;> (simp [lg_sl, va_rf, Value.category] at h ⊢; omega)
theorem am_sli {x : Int32} {vs : List Value} {n : Nat} (h : (lg_sl vs).length ≤ n) : (lg_sl (.int x :: vs)).length ≤ n + 1 := by
  simp [lg_sl, Value.category] at h ⊢; omega
theorem am_slj {x : Int64} {vs : List Value} {n : Nat} (h : (lg_sl vs).length ≤ n) : (lg_sl (.long x :: vs)).length ≤ n + 2 := by
  simp [lg_sl, Value.category] at h ⊢; omega
theorem am_mayL {E : String} {cs : List Nat} (h : f_cls cs fun Cn => Cn = E ∨ Cond.castable Cn E ∈ lw_tbl) : am_may E cs := fun ci hc => by
  obtain ⟨Cn, T, N, ty, hI, hP⟩ := h ci hc
  exact ⟨Cn, T, N, hI.1, hP⟩
theorem am_mtF {G : am_G} {d : Nat} {L : List (Nat × Value)} {σ : am_S} {Q : am_R → am_S → Prop} {Mc : am_M} {args0 : List Value} (h : am_Wp G Mc 0 d L [] σ Q) (hent : am_ent 0 args0 L) (hln : (lg_sl args0).length ≤ Mc.2.2.1) (hh : Mc.2.2.2.2 = []) (hpn : plainFor Mc.1 = true) : am_Mt G Mc d (Cond.code Mc.1 Mc.2.1 Mc.2.2.1 Mc.2.2.2.1) args0 σ Q := by
  refine MetFree.of_bodySF (code := Mc.2.1) (maxLocals := Mc.2.2.1) (ret := Mc.2.2.2.1) hpn ?_ ?_
  · intro args s m h hn
    obtain ⟨meth, c, h1, h2, h3, h4, h5, h6, -, -⟩ := Cond.code_spec hn (atoms_spec (ws := [Cond.code Mc.1 Mc.2.1 Mc.2.2.1 Mc.2.2.2.1]) h _ List.mem_cons_self)
    exact ⟨meth, c, h1, h2, h3, h4, h5, h6⟩
  · intro p e s m args below meth c s₁ B hml hP _
    refine am_body h hent hln rfl B hml ?_ hP
    obtain ⟨meth9, c9, h1, h2, -, -, -, -, h7, -⟩ := Cond.code_spec B.named (atoms_spec (ws := [Cond.code Mc.1 Mc.2.1 Mc.2.2.1 Mc.2.2.2.1]) B.pre _ List.mem_cons_self)
    cases Option.some.inj (h1.symm.trans B.method)
    cases Option.some.inj (h2.symm.trans (Stand.of_body B).code)
    rw [hh]
    have h8 : c.exceptionTable = #[] := by simpa using h7
    rw [h8]
    rfl
section
variable {G : am_G} {M : am_M} {pc d : Nat} {L : List (Nat × Value)} {rest : List Value} {σ : am_S} {Q : am_R → am_S → Prop}
theorem am_putfieldU {ci : Nat} {Cn : String} {T : u_T} {N : Nat} {ty : Nat → FieldType} {index a : Nat} {ref : String} {f : Nat → Value} {v : Value} (hI : am_inf ci Cn T N ty) (k : Nat) (hk : k < N) (hlink : Cond.fieldLink M.1.cls index ref (T k).2.1 (T k).2.2.1 ∈ lw_all) (hsame : Cond.sameField ref (T k).1 (T k).2.1 (T k).2.2.1 ∈ lw_all) (hfin : (T k).2.2.2 = false) (hn : narrow (ty k) v = v) (hfit : fits (ty k) v = true) (hdg : decode M.2.1 pc = .ok (.putfield index, 3)) (he : σ.1 a = some (.inr (ci, f)))
    (kk : am_Wp G M (pc + 3) d L rest (am_up σ a (.inr (ci, updV f k v))) Q) : am_Wp G M pc d L (v :: .ref a :: rest) σ Q := by
  intro p e R s m args below meth c H locs cells slots ls C hw hA hl
  have C0 := C
  obtain ⟨hx, hb, hr, hml, hown, hlocks, hname, htab, hfr, hroom, ⟨hoK, haK, hwK⟩, hsK, hhK⟩ := C
  obtain ⟨hA1, r, h1, cell, q1, q2, q3, q4⟩ := hw.2.2.2.2.2 a _ he
  have hr1 : r = (Cn, T, N) := Option.some.inj (h1.symm.trans hI.1)
  subst hr1
  have hts : ∀ w ∈ lw_all, w.before args s = true := fun w h => hwK.1 w h args
  have hap := am_apart (G := G) hI hts hoK
  obtain ⟨hS, hfc, kC, hkC, hkind⟩ := hoK ci _ hI.1
  obtain ⟨cf, kf, fi, fd, hi, hsl⟩ := hS k hk
  have hlay := hts _ (hI.2.1 _ (u_in_lay hk))
  unfold u_lay at hlay
  rw [if_neg (by rw [hfin]; decide)] at hlay
  have hst := (u_facts hfc hkC (u_lays hts hI.2.1 hk) hi).1
  have h6 := u_store hfc hkC hkind hlay hi (hI.2.2.1 k hk) hn hfit
  refine W.putK hx hb (f := fd) ⟨hown, hts _ hlink, ⟨_, _, _, u_same (hts _ hsame) _ hi⟩, hst⟩ (by rw [q2]; exact h6) q1 q3 (by rw [hsl]; exact k2_hasslot (q4 k hk)) rfl rfl hdg fun H' e1 e2 e3 => ?_
  rw [hsl] at e1 ⊢
  exact kk p e R s m args below meth c H' _ cells slots ls C0 (hw.set he q1 e1 (by simp [Cell.setSlot]) e2 e3 ⟨_, hI.1, cell.setSlot _ _, e1, q2, q3, t_set q4 hap hk v⟩) (am_app hA hA1) hl
theorem fx_pU {index k c0 : Nat} {r : Option Nat} {v : Value} {Cn ref : String} {T : u_T} {N : Nat} {ty : Nat → FieldType} (hI : am_inf c0 Cn T N ty) (hk : k < N) (hlink : Cond.fieldLink M.1.cls index ref (T k).2.1 (T k).2.2.1 ∈ lw_all) (hsame : Cond.sameField ref (T k).1 (T k).2.1 (T k).2.2.1 ∈ lw_all) (hfin : (T k).2.2.2 = false) (hn : narrow (ty k) v = v) (hfit : fits (ty k) v = true) (hdg : decode M.2.1 pc = .ok (.putfield index, 3)) {K : am_S → Prop} (h : f_p σ r [c0] k v K) (kk : ∀ σ', K σ' → am_Wp G M (pc + 3) d L rest σ' Q) : am_Wp G M pc d L (v :: va_rf r :: rest) σ Q := by
  obtain ⟨a, ci, f, rfl, hs, hc, h9⟩ := f_c_of h
  cases List.mem_singleton.mp hc
  exact am_putfieldU hI k hk hlink hsame hfin hn hfit hdg hs (kk _ h9)
end
