set_option maxRecDepth 100000
/-! ===== the model: kinds of a pond ===== -/
/-- kinds stand behind those above them -/
def decL (L : List Kd) : Prop := ∀ k kd, L[k]? = some kd → ∀ u, kA kd = some u → u < k
theorem decL.ac {L : List Kd} (h : decL L) : ∀ (k f : Nat), k < f → k < L.length → ac L f (some k)
  | k, 0, hf, _ => absurd hf (by omega)
  | k, f + 1, hf, hk => by
    refine ⟨L[k], List.getElem?_eq_getElem hk, ?_⟩
    cases hA : kA L[k] with
    | none => cases f <;> trivial
    | some u =>
      have hu := h k _ (List.getElem?_eq_getElem hk) u hA
      exact h.ac u f (by omega) (by omega)
theorem decL.acL {L : List Kd} (h : decL L) (h12 : L.length ≤ 12) : acL L := fun k hk => h.ac k 12 (by omega) hk
theorem decL.set {L : List Kd} {k : Nat} {kd kd' : Kd} (h : decL L) (hk : L[k]? = some kd) (he : kA kd' = kA kd) : decL (L.set k kd') := fun j jd hj u hu => by
  rcases set_get hj with ⟨e1, e2⟩ | ⟨e1, e2⟩
  · subst e1; subst e2
    exact h j kd hk u (by rw [← he]; exact hu)
  · exact h j jd e2 u hu
theorem decL.addM {L : List Kd} {k : Nat} {m : Mem} (h : decL L) : decL (addK L k m) := by
  cases hk : L[k]? with
  | none =>
    unfold addK
    rw [hk]
    exact h
  | some kd =>
    rw [addK_of hk]
    exact h.set hk addM_A
theorem decL.app {L : List Kd} {kd : Kd} (h : decL L) (hu : ∀ u, kA kd = some u → u < L.length) : decL (L ++ [kd]) := fun j jd hj u hju => by
  rcases app_get hj with ⟨e1, e2⟩ | ⟨e1, e2⟩
  · exact h j jd e1 u hju
  · rw [e1]
    rw [e2] at hju
    exact hu u hju
theorem set_last {α : Type} {a b : α} : ∀ {L : List α}, (L ++ [a]).set L.length b = L ++ [b]
  | [] => rfl
  | x :: L => by
    show x :: (L ++ [a]).set L.length b = x :: (L ++ [b])
    rw [set_last]
/-- only the world w changes -/
def rwf (w : Nat) (μ μ' : mm_S) : Prop := fr [23] μ μ' ∧ ∀ q, ¬ (769 * w ≤ q ∧ q < 769 * w + 769) → mA μ' 23 q = mA μ 23 q
theorem ro.rwf {w k : Nat} {μ μ' : mm_S} (h : ro w k μ μ') (hk : k < 12) : rwf w μ μ' := ⟨h.1, fun q hq => h.2 q (by omega)⟩
theorem rwf.refl {w : Nat} {μ : mm_S} : rwf w μ μ := ⟨fr.refl, fun _ _ => rfl⟩
theorem rwf.trans {w : Nat} {μ μ1 μ2 : mm_S} (h1 : rwf w μ μ1) (h2 : rwf w μ1 μ2) : rwf w μ μ2 := ⟨h1.1.trans h2.1, fun q hq => (h2.2 q hq).trans (h1.2 q hq)⟩
/-- another world stays -/
theorem isW.far {bd : Term → Int32 → Prop} {μ μ' : mm_S} {w w' : Nat} {L : List Kd} (h : isW bd μ w' L) (hw : w' ≠ w) (hr : rwf w μ μ') : isW bd μ' w' L := h.ext (fun f hf => hr.2 _ (by omega)) fun _ _ h => h
/-- a kind's head -/
theorem isKr.head {bd : Term → Int32 → Prop} {r r' : Nat → Int32} {kd : Kd} {n g : Int32} {ab old : Option Nat} {ch : Bool} (h : isKr bd r kd) (hr : ∀ f, 5 ≤ f → f < 64 → r' f = r f) (h0 : r' 0 = n) (h1 : r' 1 = oI ab) (h2 : r' 2 = g) (h3 : r' 3 = if ch = true then 1 else 0) (h4 : r' 4 = oI old) : isKr bd r' ((n, ab, g, ch, old), kd.2) := by
  obtain ⟨a0, a1, a2, a3, a4, ⟨b1, b2, b3⟩, ⟨c1, c2, c3⟩, d1, d2, d3⟩ := h
  refine ⟨h0, h1, h2, h3, h4, ⟨(hr 5 (by omega) (by omega)).trans b1, b2, fun i f hi => ?_⟩, ⟨(hr 30 (by omega) (by omega)).trans c1, c2, fun i f hi => ?_⟩, (hr 39 (by omega) (by omega)).trans d1, d2, fun i f hi => ?_⟩
  · have : i < (kF kd).length := get_lt hi
    rw [hr _ (by omega) (by omega), hr _ (by omega) (by omega), hr _ (by omega) (by omega)]
    exact b3 i f hi
  · have : i < (kS kd).length := get_lt hi
    rw [hr _ (by omega) (by omega), hr _ (by omega) (by omega)]
    exact c3 i f hi
  · have : i < (kX kd).length := get_lt hi
    rw [hr _ (by omega) (by omega), hr _ (by omega) (by omega)]
    exact d3 i f hi
section
variable {G : am_G} {ρ : mm_F} {d : Nat} {T : Nat → Int32} {ks : List Nat} {p0 c0 p c : Nat} {N : ps_N} {μ0 μ : mm_S} {bd : Term → Int32 → Prop}
theorem K_newKind_l {w k : Nat} {x1 x3 n : Int32} (h1 : x1 = nI w) (h3 : x3 = nI k) (hw : w < 3) (hk : k < 12) : ∀ (f j : Nat) {x4 : Int32} {μ : mm_S} {Q : Int32 → mm_S → Prop}, j + f = 64 → x4 = nI j → (∀ q, q < j → wd μ w k q = 0) → (∀ μ', ro w k μ μ' → isKd bd μ' w k (newK n none) → Q x3 μ') → B_X6_newKind_23 G ρ (d + 1) x1 n x3 x4 μ Q
  | 0, j, x4, μ, Q, hj, hx, hz, h => B_X6_newKind_23_f (by
      have hj : j = 64 := by omega
      subst hj
      subst hx
      refine ⟨fun _ => S_set (f := 0) h1 h3 rfl hw hk (by omega) (S_set (f := 1) h1 h3 rfl hw hk (by omega) (S_set (f := 4) h1 h3 rfl hw hk (by omega) (S_set (f := 3) h1 h3 rfl hw hk (by omega) ?_))), fun c => absurd (nI_le (Nat.le_refl 64) (by omega)) c⟩
      refine h _ ((((ro.refl.set (by omega)).set (by omega)).set (by omega)).set (by omega)) ?_
      show isKr bd _ _
      rw [wd_same, wd_same, wd_same, wd_same]
      have e : ∀ q, 5 ≤ q → q < 64 → (upd (upd (upd (upd (wd μ w k) 0 n) 1 (-1)) 4 (-1)) 3 1) q = 0 := fun q h5 h6 => by
        rw [pk_un (by omega), pk_un (by omega), pk_un (by omega), pk_un (by omega)]
        exact hz q h6
      refine ⟨?_, ?_, ?_, ?_, ?_, ⟨e 5 (by omega) (by omega), Nat.zero_le _, fun i f hi => by cases hi⟩, ⟨e 30 (by omega) (by omega), Nat.zero_le _, fun i f hi => by cases hi⟩, e 39 (by omega) (by omega), Nat.zero_le _, fun i f hi => by cases hi⟩
      · rw [pk_un (by omega), pk_un (by omega), pk_un (by omega), pk_us]
        rfl
      · rw [pk_un (by omega), pk_un (by omega), pk_us]
        rfl
      · rw [pk_un (by omega), pk_un (by omega), pk_un (by omega), pk_un (by omega)]
        exact hz 2 (by omega)
      · rw [pk_us]
        rfl
      · rw [pk_un (by omega), pk_us]
        rfl)
  | f + 1, j, x4, μ, Q, hj, hx, hz, h => B_X6_newKind_23_f (by
      subst hx
      refine ⟨fun c => absurd c (nI_ge (a := j) (b := 64) (by omega) (by omega)), fun _ => S_set (f := j) h1 h3 rfl hw hk (by omega) ?_⟩
      refine K_newKind_l h1 h3 hw hk f (j + 1) (by omega) (nI_1 j) (fun q hq => ?_) fun μ' hr hK => h μ' ((ro.refl.set (by omega)).trans hr) hK
      rw [wd_same]
      by_cases hqj : q = j
      · rw [hqj, pk_us]
      · rw [pk_un hqj]
        exact hz q (by omega))
theorem wm_set {w : Nat} {v : Int32} {μ : mm_S} : wm (mm_sA μ 23 (769 * w) v) w = v := mA_s
theorem K_newKind {w : Nat} {L : List Kd} {x1 n : Int32} {Q : Int32 → mm_S → Prop} (h1 : x1 = nI w) (hw : w < 3) (hW : isW bd μ w L) (hl : L.length < 12) (h : ∀ μ', rwf w μ μ' → isW bd μ' w (L ++ [newK n none]) → Q (nI L.length) μ') : W_X6_newKind G ρ (d + 1) x1 n μ Q := by
  have e : 769 * x1 = nI (769 * w) := by rw [h1]; exact pk_mul 769 w
  refine W_X6_newKind_f (S_many h1 hw ?_)
  rw [e, nI_clamp (by omega)]
  refine ⟨vp_in_nI (by omega) (by decide), vp_in_nI (by omega) (by decide), fun μ3 e3 => ?_⟩
  have hm : wm μ w = nI L.length := hW.1
  have e3' : μ3 = mm_sA μ 23 (769 * w) (nI (L.length + 1)) := by
    rw [e3]
    congr 1
    show wm μ w + 1 = _
    rw [hm]; exact nI_1 _
  have r3 : rwf w μ μ3 := by
    rw [e3']
    exact ⟨fr.refl.sA (by decide), fun q hq => mA_i (by omega)⟩
  rw [hm]
  refine K_newKind_l (bd := bd) h1 rfl hw hl 64 0 (by omega) rfl (fun q hq => absurd hq (by omega)) fun μ' hr hK => h μ' (r3.trans (hr.rwf hl)) ⟨?_, ?_, fun j kd hj => ?_⟩
  · rw [hr.wm hl, e3', wm_set, List.length_append]; rfl
  · rw [List.length_append]
    show L.length + 1 ≤ 12
    omega
  · rcases app_get hj with ⟨e1, e2⟩ | ⟨e1, e2⟩
    · refine (hW.2.2 j kd e1).ext (fun f hf => ?_) fun _ _ h => h
      rw [hr.wd hl (by omega) (Or.inr (by omega)) hf, e3']
      exact mA_i (by omega)
    · rw [e1, e2]; exact hK
/-- the kind above is set -/
theorem K_setAb {w : Nat} {L : List Kd} {kd : Kd} {k : Nat} {ab : Option Nat} {x1 x2 x3 : Int32} {Q : mm_S → Prop} (h1 : x1 = nI w) (h2 : x2 = nI k) (h3 : x3 = oI ab) (hw : w < 3) (hW : isW bd μ w L) (hk : L[k]? = some kd) (h : ∀ μ', rwf w μ μ' → isW bd μ' w (L.set k ((kN kd, ab, kG kd, kC kd, kO kd), kd.2)) → Q μ') : W_X6_set G ρ d x1 x2 1 x3 μ Q := by
  have hlt := hW.lt hk
  refine S_set (f := 1) h1 h2 rfl hw hlt (by omega) ?_
  have hr : ro w k μ (mm_sA μ 23 (769 * w + 1 + 64 * k + 1) x3) := ro.refl.set (by omega)
  have hK := hW.2.2 k kd hk
  refine h _ (hr.rwf hlt) (hW.row (get_lt hk) hr ?_)
  show isKr bd _ _
  rw [wd_same]
  have hK' := hK
  obtain ⟨a0, a1, a2, a3, a4, -⟩ := hK'
  refine hK.head (fun f h5 h6 => pk_un (by omega)) ?_ ?_ ?_ ?_ ?_
  · rw [pk_un (by omega)]; exact a0
  · rw [pk_us]; exact h3
  · rw [pk_un (by omega)]; exact a2
  · rw [pk_un (by omega)]; exact a3
  · rw [pk_un (by omega)]; exact a4
/-- what is asked of the reading of kinds -/
def KiY (ks : List Nat) (T : Nat → Int32) (μ0 : mm_S) (p0 c0 : Nat) (res : ps_R (List Kd)) (Q : Int32 → mm_S → Prop) : Prop := ∀ L p' N', res = ps_ok L p' N' → p0 < p' → ∀ c' μ', CX ks T μ0 p0 c0 p' N' c' μ' → isW (bT c' μ') μ' 1 L → decL L → Q 1 μ'
theorem S_kmem (hk : ksP ks) (h23 : 23 ∈ ks) (h24 : 24 ∈ ks) (hd : 48 ≤ d) {k : Nat} {x4 : Int32} (hx : x4 = nI k) {Q : Int32 → mm_S → Prop} : ∀ (g : Nat) (L : List Kd) (p : Nat) (N : ps_N) (c : Nat) (μ : mm_S), CX ks T μ0 p0 c0 p N c μ → p0 < p → 1001 ≤ p + g → isW (bT c μ) μ 1 L → decL L → k < L.length → KiY ks T μ0 p0 c0 (ps_pmems T g L k p N) Q → StN ks μ0 c0 (ps_pmems T g L k p N) Q → B_X6_kindOfPond_154 G ρ (d + 16) x4 μ Q
  | 0, L, p, N, c, μ, H, hp, hg, hW, hdec, hkL, hY, hN => by
    have := H.p_le
    omega
  | g + 1, L, p, N, c, μ, H, hp, hg, hW, hdec, hkL, hY, hN => by
    refine B_X6_kindOfPond_154_f (S_isSign H.1 ?_)
    unfold ps_pmems at hY hN
    by_cases h125 : lxt T p = 200 + 125
    · rw [if_pos h125]
      rw [if_pos (show lxt T p = 325 from h125)] at hY
      refine y1 (H.next hk (by rw [h125]; decide) fun μ3 f3 hg3 H3 => hY L (lxe T p) N rfl (by omega) c μ3 H3 ?_ hdec)
      exact hW.ext (fun f _ => by rw [f3.eA (by decide)]) fun t x hb => hb.up (f3.fn (by decide) c) (Nat.le_refl _)
    · rw [if_neg h125]
      rw [if_neg (show ¬ lxt T p = 325 from h125)] at hY hN
      refine z1 ?_
      have hwo : x4 = woI (some (L, k)) := hx
      rw [hwo]
      refine S_mem (wo := some (L, k)) H hk h23 h24 hd ⟨hW, hdec.acL hW.2.1, hkL⟩ (fun m p' N' h1 hp' c' kx μ' H' _ _ _ _ _ hW' => y1 ?_) fun q k' N' h1 h0 μ' f hF => z1 (hN q k' N' (by rw [show ps_mem T (chkP L k) p N = ps_mem T (woC (some (L, k))) p N from rfl, h1]; rfl) h0 μ' f hF)
      have h1' : ps_mem T (chkP L k) p N = ps_ok m p' N' := h1
      rw [h1'] at hY hN
      obtain ⟨w1, w2, w3⟩ := hW'
      rw [← hwo]
      exact S_kmem hk h23 h24 hd hx g (addK L k m) p' N' c' μ' H' (by omega) (by omega) w1 hdec.addM (by rw [addK_len]; exact hkL) hY hN
/-- a kind of a pond -/
theorem S_krest (hk : ksP ks) (h23 : 23 ∈ ks) (h24 : 24 ∈ ks) (hd : 48 ≤ d) {L : List Kd} {n pl : Nat} {ab : Option Nat} {x2 x3 : Int32} {Q : Int32 → mm_S → Prop} (hpl : p0 < p) (H : CX ks T μ0 p0 c0 p N c μ) (hW : isW (bT c μ) μ 1 L) (hdec : decL L) (hl : L.length < 12) (hab : ∀ u, ab = some u → u < L.length) (hx2 : x2 = nI n) (hx3 : x3 = oI ab) (hY : KiY ks T μ0 p0 c0 (ps_krest T L n ab p N) Q) (hN : StN ks μ0 c0 (ps_krest T L n ab p N) Q) : B_X6_kindOfPond_126 G ρ (d + 16) x2 x3 μ Q := by
  subst hx2
  unfold ps_krest at hY hN
  refine B_X6_kindOfPond_126_f (K_newKind (d := d + 14) (w := 1) rfl (by omega) hW hl fun μ1 r1 W1 => ?_)
  have e9 : L ++ [newK (nI n) none] = (L ++ [newK (nI n) none]) := rfl
  have hg : (L ++ [newK (nI n) none])[L.length]? = some (newK (nI n) none) := by simp
  refine K_setAb (w := 1) (k := L.length) (ab := ab) rfl rfl hx3 (by omega) W1 hg fun μ3 r3 W3 => ?_
  rw [set_last] at W3
  have W3' : isW (bT c μ) μ3 1 (L ++ [newK (nI n) ab]) := W3
  have rr := r1.trans r3
  have H3 : CX ks T μ0 p0 c0 p N c μ3 := H.fr_ rr.1 (fun q hq => by rw [List.mem_singleton.mp hq]; exact h23) (by decide) (by decide) fun q hq => rr.2 q (by omega)
  have dec3 : decL (L ++ [newK (nI n) ab]) := hdec.app hab
  refine H3.need hk (by decide) (fun h123 μ4 f4 hg4 H4 => y1 ?_) fun h123 μ4 f4 hF => z1 (hN 1 _ N (by unfold ps_need; rw [if_neg h123]; rfl) (by decide) μ4 f4 hF)
  have hnd : ps_need T 123 p N = ps_ok () (lxe T p) N := by unfold ps_need; rw [if_pos h123]
  rw [hnd] at hY hN
  refine S_kmem (d := d) hk h23 h24 hd rfl 1001 (L ++ [newK (nI n) ab]) (lxe T p) N c μ4 H4 (by omega) (by omega) ?_ dec3 (by simp) hY hN
  exact W3'.ext (fun f _ => by rw [f4.eA (by decide)]) fun t x hb => (show bT c μ t x from hb).up ((rr.1.fn (by decide) c).trans (f4.fn (by decide) c) (Nat.le_refl _)) (Nat.le_refl _)
theorem S_kind (hk : ksP ks) (h23 : 23 ∈ ks) (h24 : 24 ∈ ks) (hd : 48 ≤ d) {L : List Kd} {Q : Int32 → mm_S → Prop} (H : CX ks T μ0 p0 c0 p N c μ) (hW : isW (bT c μ) μ 1 L) (hdec : decL L) (hY : KiY ks T μ0 p0 c0 (ps_kind T L p N) Q) (hN : StN ks μ0 c0 (ps_kind T L p N) Q) : W_X6_kindOfPond G ρ (d + 16) μ Q := by
  have hp0 : p0 ≤ p := H.2.2.2.2.1
  have h12 := hW.2.1
  unfold ps_kind at hY hN
  refine W_X6_kindOfPond_f ?_
  rw [H.tk]
  refine ⟨fun c100 => ?_, fun n100 => ?_⟩
  · rw [if_pos c100] at hY hN
    refine H.next hk (by rw [c100]; decide) fun μ1 f1 hg1 H1 => ?_
    have W1 : isW (bT c μ1) μ1 1 L := hW.ext (fun f _ => by rw [f1.eA (by decide)]) fun t x hb => hb.up (f1.fn (by decide) c) (Nat.le_refl _)
    refine H1.named hk (fun n p1 N1 h1 hn40 hnN hp1 μ2 f2 e17 H2 => y1 ?_) fun k q N' h1 h0 μ' f hF => z1 (hN k q N' (by rw [h1]; rfl) h0 μ' f hF)
    rw [h1] at hY hN
    have W2 : isW (bT c μ2) μ2 1 L := W1.ext (fun f _ => by rw [f2.eA (by decide)]) fun t x hb => hb.up (f2.fn (by decide) c) (Nat.le_refl _)
    have hY2 : KiY ks T μ0 p0 c0 (if (ixK L (nI n)).isSome = true then ps_f 4 (lxa T (lxe T p)) N1
      else if L.length = 12 then ps_f 5 (lxa T (lxe T p)) N1
      else if lxt T p1 = 101 then ps_b (ps_name T (lxe T p1) N1) fun a p2 N2 => match ixK L (nI a) with
        | none => ps_f 4 (lxa T (lxe T p1)) N2
        | some u => ps_krest T L n (some u) p2 N2
      else ps_krest T L n none p1 N1) Q := hY
    have hN2 : StN ks μ0 c0 (if (ixK L (nI n)).isSome = true then ps_f 4 (lxa T (lxe T p)) N1
      else if L.length = 12 then ps_f 5 (lxa T (lxe T p)) N1
      else if lxt T p1 = 101 then ps_b (ps_name T (lxe T p1) N1) fun a p2 N2 => match ixK L (nI a) with
        | none => ps_f 4 (lxa T (lxe T p1)) N2
        | some u => ps_krest T L n (some u) p2 N2
      else ps_krest T L n none p1 N1) Q := hN
    refine K_find (d := d + 14) (w := 1) rfl (by omega) W2 ?_
    rw [e17, H1.at_]
    cases hix : ixK L (nI n) with
    | some i =>
      have hi := ixf_lt hix
      rw [hix] at hN2
      exact ⟨fun c9 => absurd c9 (nI_m1 (by omega)), fun _ => H2.badAt hk rfl fun μ' f hF => ⟨rfl, hN2 4 _ N1 rfl (by decide) μ' f hF⟩⟩
    | none =>
      rw [hix] at hY2 hN2
      rw [if_neg (by decide)] at hY2 hN2
      refine ⟨fun _ => S_many (w := 1) rfl (by omega) ?_, fun c9 => absurd rfl c9⟩
      rw [W2.1]
      refine ⟨fun n12 => ?_, fun c12 => ?_⟩
      · have hl12 : ¬ L.length = 12 := fun e => n12 (by rw [e]; rfl)
        rw [if_neg hl12] at hY2 hN2
        rw [H2.tk]
        refine ⟨fun n101 => ?_, fun c101 => ?_⟩
        · rw [if_neg n101] at hY2 hN2
          exact S_krest (pl := p) (ab := none) hk h23 h24 hd (by omega) H2 W2 hdec (by omega) (fun u e => by cases e) e17 rfl hY2 hN2
        · rw [if_pos c101] at hY2 hN2
          refine H2.next hk (by rw [c101]; decide) fun μ8 f8 hg8 H8 => ?_
          refine H8.named hk (fun a p2 N2 h2 ha haN hp2 μ9 f9 e17b H9 => y1 ?_) fun k q N' h2 h0 μ' f hF => z1 (hN2 k q N' (by rw [h2]; rfl) h0 μ' f hF)
          rw [h2] at hY2 hN2
          have W9 : isW (bT c μ9) μ9 1 L := W2.ext (fun f _ => by rw [f9.eA (by decide), f8.eA (by decide)]) fun t x hb => hb.up ((f8.fn (by decide) c).trans (f9.fn (by decide) c) (Nat.le_refl _)) (Nat.le_refl _)
          have hY3 : KiY ks T μ0 p0 c0 (match ixK L (nI a) with
            | none => ps_f 4 (lxa T (lxe T p1)) N2
            | some u => ps_krest T L n (some u) p2 N2) Q := hY2
          have hN3 : StN ks μ0 c0 (match ixK L (nI a) with
            | none => ps_f 4 (lxa T (lxe T p1)) N2
            | some u => ps_krest T L n (some u) p2 N2) Q := hN2
          rw [e17b, H8.at_]
          refine K_find (d := d + 14) (w := 1) rfl (by omega) W9 ?_
          cases hia : ixK L (nI a) with
          | none =>
            rw [hia] at hN3
            exact ⟨fun c9 => absurd rfl c9, fun _ => H9.badAt hk rfl fun μ' f hF => ⟨rfl, hN3 4 _ N2 rfl (by decide) μ' f hF⟩⟩
          | some u =>
            have hu := ixf_lt hia
            rw [hia] at hY3 hN3
            exact ⟨fun _ => S_krest (pl := p) (ab := some u) hk h23 h24 hd (by omega) H9 W9 hdec (by omega) (fun u' e => by cases e; exact hu) e17 rfl hY3 hN3, fun c9 => absurd c9 (nI_m1 (by omega))⟩
      · have hl12 : L.length = 12 := (nI_eq (by omega) (by decide)).mp c12
        rw [if_pos hl12] at hN2
        exact H2.badAt hk rfl fun μ' f hF => ⟨rfl, hN2 5 _ N1 rfl (by decide) μ' f hF⟩
  · rw [if_neg n100] at hN
    exact H.bad hk fun μ' f hF => ⟨rfl, hN 1 _ N rfl (by decide) μ' f hF⟩
/-- kinds up to the end -/
theorem S_pond_l (hk : ksP ks) (h23 : 23 ∈ ks) (h24 : 24 ∈ ks) (hd : 48 ≤ d) {Q : Int32 → mm_S → Prop} : ∀ (g : Nat) (L : List Kd) (p : Nat) (N : ps_N) (c : Nat) (μ : mm_S), CX ks T μ0 p0 c0 p N c μ → p0 < p → 1001 ≤ p + g → isW (bT c μ) μ 1 L → decL L → (∀ L' p' N', (if lxt T p = 0 then ps_ok L p N else ps_pond T g L p N) = ps_ok L' p' N' → ∀ c' μ', CX ks T μ0 p0 c0 p' N' c' μ' → isW (bT c' μ') μ' 1 L' → decL L' → B_X6_pond_37 G ρ (d + 17) 1 μ' Q) → (∀ k q N', (if lxt T p = 0 then ps_ok L p N else ps_pond T g L p N) = ps_f k q N' → ¬ k = 0 → ∀ μ', ff ks c0 μ0 μ' → PF k q N' μ' → B_X6_pond_37 G ρ (d + 17) 0 μ' Q) → B_X6_pond_18 G ρ (d + 17) 1 μ Q
  | 0, L, p, N, c, μ, H, hp, hg, hW, hdec, hY, hN => by
    have := H.p_le
    omega
  | g + 1, L, p, N, c, μ, H, hp, hg, hW, hdec, hY, hN => by
    have hdn : ∀ μ', B_X6_pond_37 G ρ (d + 17) 0 μ' Q → B_X6_pond_18 G ρ (d + 17) 0 μ' Q := fun μ' h => B_X6_pond_18_f ⟨fun _ => h, fun c9 => absurd rfl c9⟩
    refine B_X6_pond_18_f ⟨fun c9 => absurd c9 (by decide), fun _ => ?_⟩
    rw [H.tk]
    refine ⟨fun c0 => ?_, fun n0 => ?_⟩
    · rw [if_pos c0] at hY
      exact hY L p N rfl c μ H hW hdec
    · rw [if_neg n0] at hY hN
      unfold ps_pond at hY hN
      have h1000 := H.p_le
      obtain ⟨b1, b2, b3, b4, b5, b6, b7⟩ := H
      refine S_kind (ks := ks) (μ0 := μ) (p0 := p) (c0 := c) hk h23 h24 hd (CX.start b1 (by omega)) hW hdec (fun L1 p1 N1 h1 hp1 c1 μ1 H1 W1 D1 => ?_) fun k q N' h1 h0 μ1 f1 hF => hdn μ1 (hN k q N' (by rw [h1]; rfl) h0 μ1 ⟨b2.trans f1.1, b3.trans f1.2 b4⟩ hF)
      rw [h1] at hY hN
      obtain ⟨e1, e2, e3, e4, e5, e6, e7⟩ := H1
      exact S_pond_l hk h23 h24 hd g L1 p1 N1 c1 μ1 ⟨e1, b2.trans e2, b3.trans e3 b4, by omega, by omega, by omega, b7⟩ (by omega) (by omega) W1 D1 hY hN
end
