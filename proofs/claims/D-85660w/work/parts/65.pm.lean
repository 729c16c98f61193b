set_option maxRecDepth 100000
/-! ===== the plain parser: members, kinds of a pond ===== -/
def ps_num (T : Nat → Int32) (p : Nat) (N : ps_N) : ps_R Int32 :=
  if lxt T p = 245 then (if lxt T (lxe T p) = 3 then ps_ok (-(lxv T (lxe T p))) (lxe T (lxe T p)) N else ps_f 1 (lxa T (lxe T p)) N)
  else if lxt T p = 3 then ps_ok (lxv T p) (lxe T p) N else ps_f 1 (lxa T p) N
def msort (t : Int32) : Nat := if t = 105 then 2 else if t = 104 then 1 else 0
theorem msort_0 {t : Int32} (h5 : ¬ t = 105) (h4 : ¬ t = 104) : msort t = 0 := by
  unfold msort
  rw [if_neg h5, if_neg h4]
theorem msort_1 {t : Int32} (h4 : t = 104) : msort t = 1 := by
  rw [h4]; rfl
theorem msort_2 {t : Int32} (h5 : t = 105) : msort t = 2 := by
  rw [h5]; rfl
/-- a member behind its name -/
def ps_mrest (T : Nat → Int32) (t : Int32) (n : Nat) (p : Nat) (N : ps_N) : ps_R Mem :=
  if t = 105 then ps_b (ps_blk T (ps_stmt T 12 true) p N 0) fun b p2 N2 => ps_ok (2, nI n, 0, b.1) p2 N2
  else if t = 103 then ps_b (ps_need T 59 p N) fun _ p2 N2 => ps_ok (0, nI n, -1, Term.thrown) p2 N2
  else ps_b (ps_need T 61 p N) fun _ p2 N2 => ps_b (ps_num T p2 N2) fun v p3 N3 => ps_b (ps_need T 59 p3 N3) fun _ p4 N4 => ps_ok (msort t, nI n, v, Term.thrown) p4 N4
def ps_mem (T : Nat → Int32) (chk : Nat → Int32 → Option Int32) (p : Nat) (N : ps_N) : ps_R Mem :=
  if ¬ (102 ≤ lxt T p ∧ lxt T p ≤ 105) then ps_f 1 (lxa T p) N
  else ps_b (ps_name T (lxe T p) N) fun n p1 N1 => match chk (msort (lxt T p)) (nI n) with
    | some kd => ps_f kd (lxa T (lxe T p)) N1
    | none => ps_mrest T (lxt T p) n p1 N1
/-- what refuses a member of a pond's kind -/
def chkP (L : List Kd) (k : Nat) (sort : Nat) (n : Int32) : Option Int32 := match L[k]? with
  | none => none
  | some kd => if (if sort = 2 then (ixA kd n).isSome else hasO n kd || (upK L (hasO n) 12 (kA kd)).isSome) = true then some 4 else if fullM kd sort = true then some 5 else none
def addK (L : List Kd) (k : Nat) (m : Mem) : List Kd := match L[k]? with
  | none => L
  | some kd => L.set k (addM kd m)
def ps_pmems (T : Nat → Int32) : Nat → List Kd → Nat → Nat → ps_N → ps_R (List Kd)
  | 0, _, _, p, N => ps_f 0 p N
  | g + 1, L, k, p, N => if lxt T p = 325 then ps_ok L (lxe T p) N else ps_b (ps_mem T (chkP L k) p N) fun m p' N' => ps_pmems T g (addK L k m) k p' N'
def newK (n : Int32) (ab : Option Nat) : Kd := ((n, ab, 0, true, none), [], [], [])
def ps_krest (T : Nat → Int32) (L : List Kd) (n : Nat) (ab : Option Nat) (p : Nat) (N : ps_N) : ps_R (List Kd) := ps_b (ps_need T 123 p N) fun _ p' N' => ps_pmems T 1001 (L ++ [newK (nI n) ab]) L.length p' N'
def ps_kind (T : Nat → Int32) (L : List Kd) (p : Nat) (N : ps_N) : ps_R (List Kd) :=
  if lxt T p = 100 then ps_b (ps_name T (lxe T p) N) fun n p1 N1 =>
    if (ixK L (nI n)).isSome = true then ps_f 4 (lxa T (lxe T p)) N1
    else if L.length = 12 then ps_f 5 (lxa T (lxe T p)) N1
    else if lxt T p1 = 101 then ps_b (ps_name T (lxe T p1) N1) fun a p2 N2 => match ixK L (nI a) with
      | none => ps_f 4 (lxa T (lxe T p1)) N2
      | some u => ps_krest T L n (some u) p2 N2
    else ps_krest T L n none p1 N1
  else ps_f 1 (lxa T p) N
def ps_pond (T : Nat → Int32) : Nat → List Kd → Nat → ps_N → ps_R (List Kd)
  | 0, _, p, N => ps_f 0 p N
  | g + 1, L, p, N => ps_b (ps_kind T L p N) fun L' p' N' => if lxt T p' = 0 then ps_ok L' p' N' else ps_pond T g L' p' N'
/-! ===== the model: members ===== -/
/-- a member's node -/
def isMn (nd : Nat → Int32) (B lo : Nat) (m : Mem) (k : Nat) : Prop := nf nd B k 1 = m.2.1 ∧ (m.1 = 2 → nf nd B k 0 = 32 ∧ isB nd B lo m.2.2.2 k (nf nd B k 2)) ∧ (m.1 = 1 → nf nd B k 0 = 31 ∧ nf nd B k 2 = m.2.2.1) ∧ (m.1 = 0 → nf nd B k 0 = 30 ∧ nf nd B k 2 = m.2.2.1)
/-- a block of the text that is read, within its first c nodes -/
def bT (c : Nat) (μ : mm_S) (t : Term) (x : Int32) : Prop := isB (mA μ 15) 8400 0 t c x
/-- the kind of a pond that a member is read for; none: of a patch -/
abbrev Wo : Type := Option (List Kd × Nat)
def woI (wo : Wo) : Int32 := match wo with
  | none => -1
  | some x => nI x.2
def woC (wo : Wo) : Nat → Int32 → Option Int32 := match wo with
  | none => fun _ _ => none
  | some x => chkP x.1 x.2
def WI (wo : Wo) (c : Nat) (μ : mm_S) : Prop := match wo with
  | none => True
  | some x => isW (bT c μ) μ 1 x.1 ∧ acL x.1 ∧ x.2 < x.1.length
def woM (wo : Wo) (m : Mem) : Wo := match wo with
  | none => none
  | some x => some (addK x.1 x.2 m, x.2)
theorem bT.up {c c' : Nat} {μ μ' : mm_S} (h : fn c μ μ') (hc : c ≤ c') {t : Term} {x : Int32} (hb : bT c μ t x) : bT c' μ' t x :=
  isB.up _ c c' _ hc (isB.mono (M := c) (fun q _ hq => h q hq) t c x (Nat.le_refl _) hb)
theorem WI.up {wo : Wo} {c c' : Nat} {μ μ' : mm_S} (hW : WI wo c μ) (h : fn c μ μ') (hc : c ≤ c') (h23 : mA μ' 23 = mA μ 23) : WI wo c' μ' := by
  unfold WI at hW ⊢
  cases wo with
  | none => trivial
  | some x => exact ⟨hW.1.ext (fun f _ => by rw [h23]) fun t x hb => hb.up h hc, hW.2⟩
theorem ac.set {L : List Kd} {k : Nat} {kd kd' : Kd} (hk : L[k]? = some kd) (he : kA kd' = kA kd) : ∀ {f : Nat} {o : Option Nat}, ac L f o → ac (L.set k kd') f o
  | 0, none, _ => trivial
  | f + 1, none, _ => trivial
  | 0, some j, h => False.elim h
  | f + 1, some j, ⟨jd, h1, h2⟩ => by
    by_cases hj : j = k
    · subst hj
      rw [hk] at h1
      cases h1
      refine ⟨kd', ?_, ?_⟩
      · rw [List.getElem?_set_self (get_lt hk)]
      · rw [he]; exact h2.set hk he
    · refine ⟨jd, ?_, h2.set hk he⟩
      rw [List.getElem?_set_ne (fun e => hj e.symm)]
      exact h1
theorem acL.set {L : List Kd} {k : Nat} {kd kd' : Kd} (h : acL L) (hk : L[k]? = some kd) (he : kA kd' = kA kd) : acL (L.set k kd') := fun j hj => by
  rw [List.length_set] at hj
  exact (h j hj).set hk he
theorem addM_A {kd : Kd} {m : Mem} : kA (addM kd m) = kA kd := by
  unfold addM
  split
  · rfl
  · split <;> rfl
theorem addM_N {kd : Kd} {m : Mem} : kN (addM kd m) = kN kd := by
  unfold addM
  split
  · rfl
  · split <;> rfl
theorem addK_of {L : List Kd} {k : Nat} {kd : Kd} {m : Mem} (h : L[k]? = some kd) : addK L k m = L.set k (addM kd m) := by
  unfold addK
  rw [h]
theorem addK_len {L : List Kd} {k : Nat} {m : Mem} : (addK L k m).length = L.length := by
  unfold addK
  split
  · rfl
  · simp
section
variable {G : am_G} {ρ : mm_F} {d : Nat} {T : Nat → Int32} {ks : List Nat} {p0 c0 p c : Nat} {N : ps_N} {μ0 μ : mm_S}
theorem CX.num_ {Q : Int32 → mm_S → Prop} (H : CX ks T μ0 p0 c0 p N c μ) (hk : ksP ks) (h24 : 24 ∈ ks) (hy : ∀ v p', ps_num T p N = ps_ok v p' N → p < p' → ∀ μ', fr [2, 3, 4, 5, 10, 24] μ μ' → mI μ' 24 = v → CX ks T μ0 p0 c0 p' N c μ' → Q 1 μ') (hn : ∀ q, ps_num T p N = ps_f 1 q N → ∀ μ', ff ks c0 μ0 μ' → PF 1 q N μ' → Q 0 μ') : W_X6_num G ρ (d + 4) μ Q := by
  have fin : ∀ (p1 : Nat) (μ1 : mm_S) (x1 v : Int32), CX ks T μ0 p0 c0 p1 N c μ1 → fr [2, 3, 4, 5, 10] μ μ1 → p ≤ p1 → (x1 = 0 → v = lxv T p1) → (¬ x1 = 0 → v = -(lxv T p1)) → ps_num T p N = (if lxt T p1 = 3 then ps_ok v (lxe T p1) N else ps_f 1 (lxa T p1) N) → B_X6_num_15 G ρ (d + 4) x1 μ1 Q := fun p1 μ1 x1 v H1 f1 hp1 hv0 hv1 hr => by
    refine B_X6_num_15_f ?_
    rw [H1.tk]
    refine ⟨fun c3 => ?_, fun n3 => ?_⟩
    · rw [if_pos c3] at hr
      have fin2 : ∀ μ2, μ2 = mm_sI μ1 24 v → W_X6_look0 G ρ (d + 3) μ2 (fun μ4 => Q 1 μ4) := fun μ2 e2 => by
        have f2 : fr [24] μ1 μ2 := by rw [e2]; exact fr.refl.sI (by decide)
        refine (H1.setI e2 h24 (by decide) (by decide)).next hk (by rw [c3]; decide) fun μ3 f3 hg H3 => hy v _ hr (by omega) μ3 (((f1.more (by decide)).trans (f2.more (by decide))).trans (f3.more (by decide))) ?_ H3
        rw [f3.eI (by decide), e2, mI_s]
      rw [H1.num c3]
      refine ⟨fun c0 μ2 e2 => fin2 μ2 (by rw [hv0 c0]; exact e2), fun c0 μ2 e2 => fin2 μ2 (by rw [hv1 c0]; exact e2)⟩
    · rw [if_neg n3] at hr
      exact H1.bad hk fun μ' f hF => ⟨rfl, hn _ hr μ' f hF⟩
  refine W_X6_num_f (S_isSign H.1 ?_)
  by_cases h45 : lxt T p = 200 + 45
  · have h45' : lxt T p = 245 := h45
    rw [if_pos h45]
    refine y2 (H.next hk (by rw [h45]; decide) fun μ1 f1 hg H1 => fin (lxe T p) μ1 1 (-(lxv T (lxe T p))) H1 f1 (by omega) (fun e => absurd e (by decide)) (fun _ => rfl) ?_)
    unfold ps_num
    rw [if_pos h45']
  · have h45' : ¬ lxt T p = 245 := h45
    rw [if_neg h45]
    refine z2 (fin p μ 0 (lxv T p) H fr.refl (Nat.le_refl _) (fun _ => rfl) (fun e => absurd rfl e) ?_)
    unfold ps_num
    rw [if_neg h45']
/-- what is asked of a member's reading -/
def MeY (ks : List Nat) (T : Nat → Int32) (μ0 : mm_S) (p0 c0 pl : Nat) (wo : Wo) (res : ps_R Mem) (Q : Int32 → mm_S → Prop) : Prop := ∀ m p' N', res = ps_ok m p' N' → pl < p' → ∀ c' k μ', CX ks T μ0 p0 c0 p' N' c' μ' → c0 ≤ k → k < c' → mI μ' 22 = nI k → isMn (mA μ' 15) 8400 c0 m k → nf (mA μ' 15) 8400 k 4 = -1 → WI (woM wo m) c' μ' → Q 1 μ'
/-- the node of a field or static, and a semicolon -/
theorem S_mem317 {wo : Wo} {t v x4 : Int32} {n pl : Nat} {Q : Int32 → mm_S → Prop} (hpl : pl ≤ p) (H : CX ks T μ0 p0 c0 p N c μ) (hk : ksP ks) (hlt : c + p0 < p + c0) (hx4 : x4 = nI n) (h24 : mI μ 24 = v) (ht5 : ¬ t = 105) (hW : WI (woM wo (msort t, nI n, v, Term.thrown)) c μ)
    (hY : MeY ks T μ0 p0 c0 pl wo (ps_b (ps_need T 59 p N) fun _ p4 N4 => ps_ok (msort t, nI n, v, Term.thrown) p4 N4) Q) (hN : StN ks μ0 c0 (ps_b (ps_need T 59 p N) fun _ p4 N4 => (ps_ok (msort t, nI n, v, Term.thrown) p4 N4 : ps_R Mem)) Q) : B_X6_member_317 G ρ (d + 5) t x4 μ Q := by
  have hp0 : p0 ≤ p := H.2.2.2.2.1
  have hcc : c0 ≤ c := H.2.2.2.1
  subst hx4
  have go : ∀ s0 : Int32, (∀ nd : Nat → Int32, nf nd 8400 c 0 = s0 → nf nd 8400 c 1 = nI n → nf nd 8400 c 2 = v → isMn nd 8400 c0 (msort t, nI n, v, Term.thrown) c) → B_X6_member_332 G ρ (d + 5) (nI n) s0 μ Q := fun s0 hM => by
    refine B_X6_member_332_f (H.node hk hlt fun μ1 f1 g1 n0 n1 n2 n3 n4 H1 μ3 e3 => ?_)
    have f3 : fr [22] μ1 μ3 := by rw [e3]; exact fr.refl.sI (by decide)
    have H3 := H1.setI e3 (hk 22 (by decide)) (by decide) (by decide)
    refine H3.need hk (by decide) (fun h59 μ4 f4 hg H4 => ⟨rfl, ?_⟩) fun h59 μ4 f4 hF => ⟨rfl, hN 1 _ N (by unfold ps_need; rw [if_neg h59]; rfl) (by decide) μ4 f4 hF⟩
    have e15 : mA μ4 15 = mA μ1 15 := (f4.eA (by decide)).trans (f3.eA (by decide))
    have e23 : mA μ4 23 = mA μ 23 := ((f4.eA (by decide)).trans (f3.eA (by decide))).trans (f1.eA (by decide))
    refine hY (msort t, nI n, v, Term.thrown) (lxe T p) N (by unfold ps_need; rw [if_pos h59]; rfl) (by omega) (c + 1) c μ4 H4 hcc (by omega) ?_ ?_ ?_ ?_
    · rw [f4.eI (by decide), e3, mI_s]
    · rw [e15]; exact hM _ n0 n1 (n2.trans h24)
    · rw [e15]; exact n4
    · exact hW.up (fun q hq => by rw [e15]; exact g1 q hq) (by omega) e23
  refine B_X6_member_317_f ⟨fun n104 => go 30 fun nd n0 n1 n2 => ?_, fun c104 => go 31 fun nd n0 n1 n2 => ?_⟩
  · have e : msort t = 0 := by unfold msort; rw [if_neg ht5, if_neg n104]
    rw [e]
    exact ⟨n1, fun h => absurd (show (0 : Nat) = 2 from h) (by decide), fun h => absurd (show (0 : Nat) = 1 from h) (by decide), fun _ => ⟨n0, n2⟩⟩
  · have e : msort t = 1 := by unfold msort; rw [if_neg ht5, if_pos c104]
    rw [e]
    exact ⟨n1, fun h => absurd (show (1 : Nat) = 2 from h) (by decide), fun _ => ⟨n0, n2⟩, fun h => absurd (show (1 : Nat) = 0 from h) (by decide)⟩
/-- there is room in the kind -/
def roomW (wo : Wo) (t n : Int32) : Prop := ∀ L k kd, wo = some (L, k) → L[k]? = some kd → (¬ t = 105 → ¬ t = 104 → ¬ (kF kd).length = 8) ∧ (t = 104 → ¬ (kS kd).length = 4) ∧ (t = 105 → ixA kd n = none → ¬ (kX kd).length = 8)
theorem bT_23 {c : Nat} {μ μ' : mm_S} (h : mA μ' 15 = mA μ 15) : bT c μ' = bT c μ := by
  unfold bT
  rw [h]
/-- a member comes to the kind of a pond -/
theorem WI.add {L : List Kd} {k c : Nat} {kd : Kd} {m : Mem} {μ μ' : mm_S} (hW : WI (some (L, k)) c μ) (hk : L[k]? = some kd) (hr : ro 1 k μ μ') (hK : isKd (bT c μ) μ' 1 k (addM kd m)) : WI (woM (some (L, k)) m) c μ' := by
  obtain ⟨h1, h2, h3⟩ := hW
  have e15 : mA μ' 15 = mA μ 15 := hr.1.eA (by decide)
  show isW (bT c μ') μ' 1 (addK L k m) ∧ acL (addK L k m) ∧ k < (addK L k m).length
  rw [bT_23 e15, addK_len, addK_of hk]
  exact ⟨h1.row h3 hr hK, h2.set hk addM_A, h3⟩
theorem ro.CX {k : Nat} {μ' : mm_S} (h : ro 1 k μ μ') (hk : k < 12) (H : CX ks T μ0 p0 c0 p N c μ) (h23 : 23 ∈ ks) : CX ks T μ0 p0 c0 p N c μ' := H.fr_ h.1 (fun q hq => by rw [List.mem_singleton.mp hq]; exact h23) (by decide) (by decide) fun q hq => h.2 q (by omega)
theorem S_mem271 {wo : Wo} {t v x4 : Int32} {n pl : Nat} {Q : Int32 → mm_S → Prop} (hpl : pl ≤ p) (H : CX ks T μ0 p0 c0 p N c μ) (hk : ksP ks) (h23 : 23 ∈ ks) (hlt : c + p0 < p + c0) (hx4 : x4 = nI n) (h24 : mI μ 24 = v) (ht5 : ¬ t = 105) (hW : WI wo c μ) (hroom : roomW wo t (nI n))
    (hY : MeY ks T μ0 p0 c0 pl wo (ps_b (ps_need T 59 p N) fun _ p4 N4 => ps_ok (msort t, nI n, v, Term.thrown) p4 N4) Q) (hN : StN ks μ0 c0 (ps_b (ps_need T 59 p N) fun _ p4 N4 => (ps_ok (msort t, nI n, v, Term.thrown) p4 N4 : ps_R Mem)) Q) : B_X6_member_271 G ρ (d + 5) (woI wo) t x4 μ Q := by
  cases wo with
  | none =>
    refine B_X6_member_271_f ⟨fun _ => B_X6_member_294_f ⟨fun _ => S_mem317 (wo := none) hpl H hk hlt hx4 h24 ht5 trivial hY hN, fun c => absurd rfl c⟩, fun c => absurd rfl c⟩
  | some x =>
    obtain ⟨L, k⟩ := x
    have hW' := hW
    obtain ⟨h1, h2, h3⟩ := hW'
    have h3 : k < L.length := h3
    have h12 : L.length ≤ 12 := h1.2.1
    have hkd : L[k]? = some L[k] := List.getElem?_eq_getElem h3
    have hm1 : ¬ woI (some (L, k)) = -1 := nI_m1 (show k < 2 ^ 31 by omega)
    have hK : isKd (bT c μ) μ 1 k L[k] := h1.2.2 k _ hkd
    obtain ⟨r1, r2, r3⟩ := hroom L k L[k] rfl hkd
    refine B_X6_member_271_f ⟨fun c => absurd c hm1, fun _ => ⟨fun n104 => ?_, fun c104 => ?_⟩⟩
    · refine B_X6_member_294_f ⟨fun c => absurd c hm1, fun _ => ⟨fun c => absurd c n104, fun _ => ?_⟩⟩
      refine K_addField (d := d + 3) (n := x4) (v := mI μ 24) (w := 1) (k := k) (bd := bT c μ) (kd := L[k]) rfl rfl (by omega) (by omega) hK (r1 ht5 n104) fun μ' hr hK' => ?_
      refine S_mem317 (wo := some (L, k)) hpl (hr.CX (by omega) H h23) hk hlt hx4 ((hr.1.eI (by decide)).trans h24) ht5 ?_ hY hN
      have e : msort t = 0 := by unfold msort; rw [if_neg ht5, if_neg n104]
      rw [e]
      refine hW.add hkd hr ?_
      rw [← hx4, ← h24]
      exact hK'
    · refine K_addFixed (d := d + 3) (n := x4) (v := mI μ 24) (w := 1) (k := k) (bd := bT c μ) (kd := L[k]) rfl rfl (by omega) (by omega) hK (r2 c104) fun μ' hr hK' => ?_
      refine B_X6_member_294_f ⟨fun c => absurd c hm1, fun _ => ⟨fun _ => ?_, fun c => absurd c104 c⟩⟩
      refine S_mem317 (wo := some (L, k)) hpl (hr.CX (by omega) H h23) hk hlt hx4 ((hr.1.eI (by decide)).trans h24) ht5 ?_ hY hN
      have e : msort t = 1 := by unfold msort; rw [if_neg ht5, if_pos c104]
      rw [e]
      refine hW.add hkd hr ?_
      rw [← hx4, ← h24]
      exact hK'
theorem S_mem180 {wo : Wo} {t x4 : Int32} {n pl : Nat} {Q : Int32 → mm_S → Prop} (hpl : pl ≤ p) (H : CX ks T μ0 p0 c0 p N c μ) (hk : ksP ks) (h23 : 23 ∈ ks) (h24 : 24 ∈ ks) (hd : 48 ≤ d) (hlt : c + p0 < p + c0) (hx4 : x4 = nI n) (hW : WI wo c μ) (hroom : roomW wo t (nI n)) (hY : MeY ks T μ0 p0 c0 pl wo (ps_mrest T t n p N) Q) (hN : StN ks μ0 c0 (ps_mrest T t n p N) Q) : B_X6_member_180 G ρ (d + 15) (woI wo) t x4 μ Q := by
  have hp0 : p0 ≤ p := H.2.2.2.2.1
  have hcc : c0 ≤ c := H.2.2.2.1
  unfold ps_mrest at hY hN
  refine B_X6_member_180_f ⟨fun n105 μ1 e1 => ?_, fun c105 μ6 e6 μ7 e7 => ?_⟩
  · rw [if_neg n105] at hY hN
    have f1 : fr [24] μ μ1 := by rw [e1]; exact fr.refl.sI (by decide)
    have H1 := H.setI e1 h24 (by decide) (by decide)
    have W1 : WI wo c μ1 := hW.up (f1.fn (by decide) c) (Nat.le_refl _) (f1.eA (by decide))
    refine ⟨fun c103 => ?_, fun n103 => ?_⟩
    · rw [if_pos c103] at hY hN
      have e0 : (0 : Nat) = msort t := by unfold msort; rw [if_neg n105, if_neg (by rw [c103]; decide)]
      rw [e0] at hY hN
      exact S_mem271 (d := d + 10) (v := -1) hpl H1 hk h23 hlt hx4 (by rw [e1, mI_s]) n105 W1 hroom hY hN
    · rw [if_neg n103] at hY hN
      refine H1.need hk (by decide) (fun h61 μ2 f2 hg2 H2 => y2 ?_) fun h61 μ2 f2 hF => z2 (hN 1 _ N (by unfold ps_need; rw [if_neg h61]; rfl) (by decide) μ2 f2 hF)
      have hnd : ps_need T 61 p N = ps_ok () (lxe T p) N := by unfold ps_need; rw [if_pos h61]
      rw [hnd] at hY hN
      have hY2 : MeY ks T μ0 p0 c0 pl wo (ps_b (ps_num T (lxe T p) N) fun v p3 N3 => ps_b (ps_need T 59 p3 N3) fun _ p4 N4 => ps_ok (msort t, nI n, v, Term.thrown) p4 N4) Q := hY
      have hN2 : StN ks μ0 c0 (ps_b (ps_num T (lxe T p) N) fun v p3 N3 => ps_b (ps_need T 59 p3 N3) fun _ p4 N4 => (ps_ok (msort t, nI n, v, Term.thrown) p4 N4 : ps_R Mem)) Q := hN
      refine H2.num_ hk h24 (fun v p3 h3 hp3 μ4 f4 e24 H4 => y1 ?_) fun q h3 μ4 f4 hF => z1 (hN2 1 q N (by rw [h3]; rfl) (by decide) μ4 f4 hF)
      rw [h3] at hY2 hN2
      have W4 : WI wo c μ4 := W1.up ((f2.fn (by decide) c).trans (f4.fn (by decide) c) (Nat.le_refl _)) (Nat.le_refl _) ((f4.eA (by decide)).trans (f2.eA (by decide)))
      exact S_mem271 (d := d + 10) (v := v) (pl := pl) (by omega) H4 hk h23 (by omega) hx4 e24 n105 W4 hroom hY2 hN2
  · rw [if_pos c105] at hY hN
    have f6 : fr [18, 20] μ μ6 := by rw [e6]; exact fr.refl.sI (by decide)
    have f7 : fr [18, 20] μ μ7 := by rw [e7]; exact f6.sI (by decide)
    have H7 : CX ks T μ0 p0 c0 p N c μ7 := (H.setI e6 (hk 20 (by decide)) (by decide) (by decide)).setI e7 (hk 18 (by decide)) (by decide) (by decide)
    have k18 : mI μ7 18 = nI 0 := by rw [e7, mI_s]; rfl
    have k20 : mI μ7 20 = nI 0 := by rw [e7, mI_o (by decide), e6, mI_s]; rfl
    refine H7.blk hk (S_blockO hd) k18 k20 (by omega) (fun b s' p2 N2 h2 hp2 c2 μ8 f8 g8 l18 l20 hs' hcc2 hcp2 hB H8 => y1 ?_) fun k q N' h2 h0 μ' f hF => z1 (hN k q N' (by rw [h2]; rfl) h0 μ' f hF)
    rw [h2] at hY hN
    have W8 : WI wo c2 μ8 := hW.up ((f7.fn (by decide) c).trans g8 (Nat.le_refl _)) hcc2 ((f8.eA (by decide)).trans (f7.eA (by decide)))
    have fin : ∀ (μ13 : mm_S), fr [23] μ8 μ13 → WI (woM wo (2, nI n, 0, b)) c2 μ13 → CX ks T μ0 p0 c0 p2 N2 c2 μ13 → W_X6_node G ρ (d + 14) 32 x4 (mI μ13 21) 0 μ13 (fun v15 μ14 => ∀ μ16 : mm_S, μ16 = mm_sI μ14 22 v15 → Q 1 μ16) := fun μ13 f13 W13 H13 => by
      refine H13.node hk (by omega) fun μ14 f14 g14 n0 n1 n2 n3 n4 H14 μ16 e16 => ?_
      have f16 : fr [22] μ14 μ16 := by rw [e16]; exact fr.refl.sI (by decide)
      have H16 := H14.setI e16 (hk 22 (by decide)) (by decide) (by decide)
      have e15 : mA μ16 15 = mA μ14 15 := f16.eA (by decide)
      refine hY (2, nI n, 0, b) p2 N2 rfl (by omega) (c2 + 1) c2 μ16 H16 (by omega) (by omega) ?_ ?_ ?_ ?_
      · rw [e16, mI_s]
      · rw [e15]
        refine ⟨n1.trans hx4, fun _ => ⟨n0, ?_⟩, fun h => absurd (show (2 : Nat) = 1 from h) (by decide), fun h => absurd (show (2 : Nat) = 0 from h) (by decide)⟩
        rw [n2, f13.eI (by decide)]
        refine isB.lo hcc _ _ _ (isB.mono (M := c2) (fun q _ hq => ?_) b c2 _ (Nat.le_refl _) hB)
        rw [g14 q hq, f13.eA (by decide)]
      · rw [e15]; exact n4
      · exact W13.up (fun q hq => by rw [e15]; exact g14 q hq) (by omega) ((f16.eA (by decide)).trans (f14.eA (by decide)))
    cases wo with
    | none => exact ⟨fun _ => fin μ8 fr.refl trivial H8, fun c => absurd rfl c⟩
    | some x =>
      obtain ⟨L, k⟩ := x
      have W8' := W8
      obtain ⟨h1, h2', h3⟩ := W8'
      have h3 : k < L.length := h3
      have h12 : L.length ≤ 12 := h1.2.1
      have hkd : L[k]? = some L[k] := List.getElem?_eq_getElem h3
      have hm1 : ¬ woI (some (L, k)) = -1 := nI_m1 (show k < 2 ^ 31 by omega)
      have hK : isKd (bT c2 μ8) μ8 1 k L[k] := h1.2.2 k _ hkd
      obtain ⟨r1, r2, r3⟩ := hroom L k L[k] rfl hkd
      refine ⟨fun c => absurd c hm1, fun _ => ?_⟩
      refine K_addAct (d := d + 12) (n := x4) (v := mI μ8 21) (t := b) (w := 1) (k := k) (bd := bT c2 μ8) (kd := L[k]) rfl rfl (by omega) (by omega) hK (fun h => r3 c105 (by rw [← hx4]; exact h)) (isB.lo (Nat.zero_le _) _ _ _ hB) fun μ' hr hK' => ?_
      refine fin μ' hr.1 ?_ (hr.CX (by omega) H8 h23)
      refine W8.add hkd hr ?_
      rw [← hx4]
      exact hK'
/-- a member -/
theorem S_mem {wo : Wo} {Q : Int32 → mm_S → Prop} (H : CX ks T μ0 p0 c0 p N c μ) (hk : ksP ks) (h23 : 23 ∈ ks) (h24 : 24 ∈ ks) (hd : 48 ≤ d) (hW : WI wo c μ) (hY : MeY ks T μ0 p0 c0 p wo (ps_mem T (woC wo) p N) Q) (hN : StN ks μ0 c0 (ps_mem T (woC wo) p N) Q) : W_X6_member G ρ (d + 15) (woI wo) μ Q := by
  have hcp0 : c + p0 ≤ p + c0 := H.2.2.2.2.2.1
  unfold ps_mem at hY hN
  refine W_X6_member_f ?_
  rw [H.tk]
  refine S_isIn ⟨fun hin => y1 ?_, fun hin => z1 ?_⟩
  · rw [if_neg (not_not_intro hin)] at hY hN
    have hz : ¬ lxt T p = 0 := fun e => by rw [e] at hin; exact absurd hin (by decide)
    refine H.next hk hz fun μ3 f3 hg H1 => ?_
    refine H1.named hk (fun n p1 N1 h1 hn40 hnN hp1 μ4 f4 e17 H4 => y1 ?_) fun k q N' h1 h0 μ' f hF => z1 (hN k q N' (by rw [h1]; rfl) h0 μ' f hF)
    rw [h1] at hY hN
    have hY4 : MeY ks T μ0 p0 c0 p wo (match woC wo (msort (lxt T p)) (nI n) with
      | some kd => ps_f kd (lxa T (lxe T p)) N1
      | none => ps_mrest T (lxt T p) n p1 N1) Q := hY
    have hN4 : StN ks μ0 c0 (match woC wo (msort (lxt T p)) (nI n) with
      | some kd => (ps_f kd (lxa T (lxe T p)) N1 : ps_R Mem)
      | none => ps_mrest T (lxt T p) n p1 N1) Q := hN
    have W4 : WI wo c μ4 := hW.up ((f3.fn (by decide) c).trans (f4.fn (by decide) c) (Nat.le_refl _)) (Nat.le_refl _) ((f4.eA (by decide)).trans (f3.eA (by decide)))
    cases wo with
    | none =>
      exact ⟨fun _ => S_mem180 (wo := none) (pl := p) (by omega) H4 hk h23 h24 hd (by omega) e17 W4 (fun L k kd e => by cases e) hY4 hN4, fun c => absurd rfl c⟩
    | some x =>
      obtain ⟨L, k⟩ := x
      have W4' := W4
      obtain ⟨h1', h2', h3⟩ := W4'
      have h3 : k < L.length := h3
      have h12 : L.length ≤ 12 := h1'.2.1
      have hkd : L[k]? = some L[k] := List.getElem?_eq_getElem h3
      have hm1 : ¬ woI (some (L, k)) = -1 := nI_m1 (show k < 2 ^ 31 by omega)
      have hK : isKd (bT c μ4) μ4 1 k L[k] := h1'.2.2 k _ hkd
      have e17' := e17
      rw [e17]
      have echk : woC (some (L, k)) (msort (lxt T p)) (nI n) = if (if msort (lxt T p) = 2 then (ixA L[k] (nI n)).isSome else hasO (nI n) L[k] || (upK L (hasO (nI n)) 12 (kA L[k])).isSome) = true then some 4 else if fullM L[k] (msort (lxt T p)) = true then some 5 else none := by
        show chkP L k _ _ = _
        unfold chkP
        rw [hkd]
      rw [echk] at hY4 hN4
      have hbad : ∀ (kd9 : Int32) (μ' : mm_S), μ' = μ4 → ¬ kd9 = 0 → StN ks μ0 c0 (ps_f kd9 (lxa T (lxe T p)) N1 : ps_R Mem) Q → W_X6_badAt G ρ (d + 14) kd9 (mI μ3 4) μ' (fun v8 μ7 => narrow .boolean (.int v8) = .int v8 ∧ Q v8 μ7) := fun kd9 μ' e hz9 hN9 => by
        subst e
        exact H4.badAt hk H1.at_ fun μ' f hF => ⟨rfl, hN9 kd9 _ N1 rfl hz9 μ' f hF⟩
      -- the room is looked for
      have b104 : ∀ there : Bool, (if msort (lxt T p) = 2 then (ixA L[k] (nI n)).isSome else hasO (nI n) L[k] || (upK L (hasO (nI n)) 12 (kA L[k])).isSome) = there → ∀ s0 : Int32, (s0 = 0 ↔ there = false) → B_X6_member_104 G ρ (d + 15) (woI (some (L, k))) (lxt T p) (mI μ3 4) (nI n) s0 μ4 Q := fun there ht s0 hs0 => by
        rw [ht] at hY4 hN4
        refine B_X6_member_104_f ⟨fun c0 => ?_, fun c0 => ?_⟩
        · rw [if_neg (by rw [hs0.mp c0]; decide)] at hY4 hN4
          have b173 : fullM L[k] (msort (lxt T p)) = true → B_X6_member_173 G ρ (d + 15) (mI μ3 4) μ4 Q := fun hf => by
            rw [if_pos hf] at hN4
            exact B_X6_member_173_f (hbad 5 μ4 rfl (by decide) hN4)
          have b180 : ¬ fullM L[k] (msort (lxt T p)) = true → B_X6_member_180 G ρ (d + 15) (woI (some (L, k))) (lxt T p) (nI n) μ4 Q := fun hf => by
            rw [if_neg hf] at hY4 hN4
            refine S_mem180 (wo := some (L, k)) (pl := p) (by omega) H4 hk h23 h24 hd (by omega) rfl W4 (fun L' k' kd' e hk' => ?_) hY4 hN4
            cases e
            rw [hkd] at hk'
            cases hk'
            refine ⟨fun n105 n104 h8 => ?_, fun c104 h8 => ?_, fun c105 _ h8 => ?_⟩
            · rw [msort_0 n105 n104] at hf
              exact hf (show ((kF L[k]).length == 8) = true by rw [h8]; rfl)
            · rw [msort_1 c104] at hf
              exact hf (show ((kS L[k]).length == 4) = true by rw [h8]; rfl)
            · rw [msort_2 c105] at hf
              exact hf (show ((kX L[k]).length == 8) = true by rw [h8]; rfl)
          refine ⟨fun n105 => ⟨fun n104 => S_get (w := 1) (k := k) (f := 5) rfl rfl rfl (by omega) (by omega) (by omega) ?_, fun c104 => S_get (w := 1) (k := k) (f := 30) rfl rfl rfl (by omega) (by omega) (by omega) ?_⟩, fun c105 => S_get (w := 1) (k := k) (f := 39) rfl rfl rfl (by omega) (by omega) (by omega) ?_⟩
          · have e : fullM L[k] (msort (lxt T p)) = ((kF L[k]).length == 8) := by
              rw [msort_0 n105 n104]; rfl
            rw [hK.2.2.2.2.2.1.1]
            have h8 := hK.2.2.2.2.2.1.2.1
            refine ⟨fun c => b180 fun h9 => c ?_, fun c => b173 ?_⟩
            · rw [e, beq_iff_eq] at h9
              rw [h9]; rfl
            · rw [e, beq_iff_eq]
              exact (nI_eq (by omega) (by decide)).mp c
          · have e : fullM L[k] (msort (lxt T p)) = ((kS L[k]).length == 4) := by
              rw [msort_1 c104]; rfl
            rw [hK.2.2.2.2.2.2.1.1]
            have h8 := hK.2.2.2.2.2.2.1.2.1
            refine ⟨fun c => b180 fun h9 => c ?_, fun c => b173 ?_⟩
            · rw [e, beq_iff_eq] at h9
              rw [h9]; rfl
            · rw [e, beq_iff_eq]
              exact (nI_eq (by omega) (by decide)).mp c
          · have e : fullM L[k] (msort (lxt T p)) = ((kX L[k]).length == 8) := by
              rw [msort_2 c105]; rfl
            rw [hK.2.2.2.2.2.2.2.1]
            have h8 := hK.2.2.2.2.2.2.2.2.1
            refine ⟨fun c => b180 fun h9 => c ?_, fun c => b173 ?_⟩
            · rw [e, beq_iff_eq] at h9
              rw [h9]; rfl
            · rw [e, beq_iff_eq]
              exact (nI_eq (by omega) (by decide)).mp c
        · have ht1 : there = true := by
            cases there with
            | true => rfl
            | false => exact absurd (hs0.mpr rfl) c0
          rw [ht1, if_pos rfl] at hN4
          exact hbad 4 μ4 rfl (by decide) hN4
      refine ⟨fun c => absurd c hm1, fun _ => ⟨fun n105 => ?_, fun c105 => ?_⟩⟩
      · have ems : ¬ msort (lxt T p) = 2 := by
          unfold msort
          rw [if_neg n105]
          split <;> decide
        refine K_hasOwn (d := d + 12) (w := 1) (k := k) (kd := L[k]) rfl rfl (by omega) (by omega) hK ?_
        cases ho : hasO (nI n) L[k] with
        | true =>
          refine y1 (b104 true (by rw [if_neg ems, ho]; rfl) 1 ⟨fun e => absurd e (by decide), fun e => absurd e (by decide)⟩)
        | false =>
          refine z1 (K_isAbove (d := d + 11) (w := 1) (k := k) (kd := L[k]) rfl rfl (by omega) h1' h2' hkd ?_)
          cases hu : (upK L (hasO (nI n)) 12 (kA L[k])).isSome with
          | true => exact y2 (b104 true (by rw [if_neg ems, ho, hu]; rfl) 1 ⟨fun e => absurd e (by decide), fun e => absurd e (by decide)⟩)
          | false => exact z2 (b104 false (by rw [if_neg ems, ho, hu]; rfl) 0 ⟨fun _ => rfl, fun _ => rfl⟩)
      · have ems : msort (lxt T p) = 2 := by
          unfold msort
          rw [if_pos c105]
        refine K_actOf (d := d + 13) (w := 1) (k := k) (kd := L[k]) rfl rfl (by omega) (by omega) hK ?_
        cases hx : ixA L[k] (nI n) with
        | none => exact ⟨fun _ => b104 false (by rw [if_pos ems, hx]; rfl) 0 ⟨fun _ => rfl, fun _ => rfl⟩, fun c => absurd rfl c⟩
        | some i =>
          have hi := ixA_lt hK hx
          exact ⟨fun c => absurd c (nI_m1 (by omega)), fun _ => b104 true (by rw [if_pos ems, hx]; rfl) 1 ⟨fun e => absurd e (by decide), fun e => absurd e (by decide)⟩⟩
  · rw [if_pos hin] at hN
    exact H.bad hk fun μ' f hF => ⟨rfl, hN 1 _ N rfl (by decide) μ' f hF⟩
end
