set_option maxRecDepth 100000
/-! ===== the start, second part: G; the law's body at its entry; its end ===== -/
/-- what the law's walk may use of G -/
def st_LG (G : am_G) (L : Nat) (xs : Nat → Int32) : Prop := am_st G 0 = .int 1 ∧ (∃ t, am_st G 1 = .ref t ∧ t < am_z G) ∧ (∀ i, i = 2 ∨ i = 3 ∨ i = 4 → am_st G i = .null ∨ ∃ t, am_st G i = .ref t) ∧ am_sv G 24 = L ∧ (∀ i, i < L → am_st G (100 + i) = .int (xs i)) ∧ (∀ i, i < 23 → am_sk G i < am_z G ∧ am_sv G i < am_z G) ∧ am_bc G = am_z G + 1200128 ∧ am_bs G = 5501098
section
variable {s : State} {args : Array Value}
theorem st_refs {t : Term} (h : (Cond.isRef t).before args s = true) : ∃ v, t.eval args s none [] s = some v ∧ (v = .null ∨ ∃ a, v = .ref a) := by
  cases hv : t.eval args s none [] s with
  | none => simp [Cond.before, Cond.holds, Cond.value, hv] at h
  | some w =>
    simp only [Cond.before, Cond.holds, Cond.value, hv] at h
    cases w with
    | null => exact ⟨_, rfl, Or.inl rfl⟩
    | ref t => exact ⟨_, rfl, Or.inr ⟨t, rfl⟩⟩
    | _ => simp at h
theorem st_same {t u : Term} {a : Nat} (h : (Cond.eq t u).before args s = true) (ht : t.eval args s none [] s = some (.ref a)) : u.eval args s none [] s = some (.ref a) := by
  cases hu : u.eval args s none [] s with
  | none => simp [Cond.before, Cond.holds, Cond.value, ht, hu] at h
  | some w =>
    simp only [Cond.before, Cond.holds, Cond.value, ht, hu] at h
    cases w <;> simp_all
theorem st_tab : ∀ q ∈ st_all, q.2.2.2 < 23 ∧ am_txs[q.2.2.2]? = some q.2.2.1 ∧ (st_tm q.2.2.2 = Term.string q.1 q.2.1 ∨ Cond.eq (st_tm q.2.2.2) (Term.string q.1 q.2.1) ∈ flatC (Jvm.Cond.and given_1 narrow_1)) := by decide +kernel
theorem st_ncs : ∀ q ∈ am_ncs, Cond.not (Cond.castable q.1 q.2) ∈ flatC (Jvm.Cond.and given_1 narrow_1) := by decide +kernel
set_option maxHeartbeats 4000000 in
theorem st_G (l : Launch) (hts : ∀ w ∈ lw_tbl, w.before args s = true) (hgv : (Jvm.Cond.and given_1 narrow_1).before args s = true) {b L : Nat} {xs : Nat → Int32} (hX : va_X b L xs s s.heap) (hL : L ≤ 384) : ∃ G : am_G, am_l G = l ∧ am_z G = s.heap.size ∧ am_K G s ∧ am_sK G s ∧ am_hK G s s.heap ∧ st_LG G L xs ∧ am_sk G 24 = b := by
  have hs := flat_of_before _ hgv
  have hA : ∀ a : Nat, a < s.heap.size → ¬ (fun q => s.heap.size ≤ q) a := fun a h1 h2 => by have h3 : s.heap.size ≤ a := h2; omega
  obtain ⟨d, hd⟩ := Classical.axiomOfChoice (st_oK hts)
  obtain ⟨cA, hcA⟩ := Classical.axiomOfChoice (st_aK hts)
  obtain ⟨q, hq⟩ := Classical.axiomOfChoice (st_str hgv hA)
  obtain ⟨mi, hmi⟩ := va_Mi.of (hs (Cond.isRef (.mirror "[Ljava/lang/Object;")) (by decide +kernel))
  have e0 := va_Zof (hts _ q1422) (hts _ (lw_all_tbl q172)) (va_eqi (hs (Cond.eq (.static "java/lang/String" "COMPACT_STRINGS" "Z") (.int 1)) (by decide +kernel))) hA
  obtain ⟨t, ht, hT⟩ := va_Tof (N := 0) (ty := .object "java/lang/Object") (tm := .static "java/util/ArrayList" "DEFAULTCAPACITY_EMPTY_ELEMENTDATA" "[Ljava/lang/Object;") (f := fun _ => .null) (A := fun q => s.heap.size ≤ q) (by decide) (hs _ (by decide +kernel)) (va_eqt (hs _ (by decide +kernel))) (fun j hj => absurd hj (Nat.not_lt_zero _)) hA
  have e1 := va_Zof (hts _ q533) (hts _ (lw_all_tbl q184)) ht hA
  obtain ⟨v2, hv2, hr2⟩ := st_refs (hs (Cond.isRef (.static "java/lang/Throwable" "UNASSIGNED_STACK" "[Ljava/lang/StackTraceElement;")) (by decide +kernel))
  have e2 := va_Zof (hts _ q1109) (hts _ (lw_all_tbl q163)) hv2 hA
  obtain ⟨v3, hv3, hr3⟩ := st_refs (hs (Cond.isRef (.static "java/lang/Throwable" "SUPPRESSED_SENTINEL" "Ljava/util/List;")) (by decide +kernel))
  have e3 := va_Zof (hts _ q1111) (hts _ (lw_all_tbl q163)) hv3 hA
  obtain ⟨v4, hv4, hr4⟩ := st_refs (hs (Cond.isRef (.static "jdk/internal/util/Preconditions" "SIOOBE_FORMATTER" "Ljava/util/function/BiFunction;")) (by decide +kernel))
  have e4 := va_Zof (hts _ q1503) (hts _ (lw_all_tbl q179)) hv4 hA
  let sk : Nat → Nat := fun i => if i = 23 then mi else if i = 24 then b else (q i).1
  let sv : Nat → Nat := fun i => if i = 24 then L else (q i).2
  let st : Nat → Value := fun i => if i = 0 then .int 1 else if i = 1 then .ref t else if i = 2 then v2 else if i = 3 then v3 else if i = 4 then v4 else .int (xs (i - 100))
  have hsk : ∀ i, i < 23 → sk i = (q i).1 := fun i hi => by show (if i = 23 then mi else if i = 24 then b else (q i).1) = _; rw [if_neg (by omega), if_neg (by omega)]
  have hsv : ∀ i, i < 23 → sv i = (q i).2 := fun i hi => by show (if i = 24 then L else (q i).2) = _; rw [if_neg (by omega)]
  have hsx : ∀ i, st (100 + i) = .int (xs i) := fun i => by
    show (if 100 + i = 0 then Value.int 1 else if 100 + i = 1 then .ref t else if 100 + i = 2 then v2 else if 100 + i = 3 then v3 else if 100 + i = 4 then v4 else .int (xs (100 + i - 100))) = _
    rw [if_neg (by omega), if_neg (by omega), if_neg (by omega), if_neg (by omega), if_neg (by omega), Nat.add_sub_cancel_left]
  refine ⟨(l, (fun c => (d c).1, fun c => (d c).2), cA, (s.heap.size, s.heap.size + 1200128, 5501098), sk, sv, st), rfl, rfl, ⟨fun c q hq => hd c q hq, fun k ty hk => hcA k ty hk, st_wK hts⟩, ⟨fun own k tx hm => ?_, fun p hp => va_Nc.of (hs _ (st_ncs p hp)), ?_⟩, ⟨fun i hi => ?_, fun i p hi => ?_, ⟨t, rfl, hT⟩, ?_⟩, ⟨rfl, ⟨t, rfl, ?_⟩, fun i hi => ?_, rfl, fun i hi => hsx i, fun i hi => ?_, rfl, rfl⟩, rfl⟩
  · have h1 := st_allin _ hm
    obtain ⟨p, hp, h2⟩ := List.any_eq_true.mp h1
    simp only [Bool.and_eq_true, beq_iff_eq] at h2
    obtain ⟨⟨h3, h4⟩, h5⟩ := h2
    obtain ⟨h6, h7, h8⟩ := st_tab p hp
    subst h3; subst h4; subst h5
    refine ⟨p.2.2.2, h6, h7, ?_⟩
    show vk_R p.1 p.2.1 p.2.2.1 (sk p.2.2.2) s
    rw [hsk _ h6]
    refine vk_R.of (A := args) (hts _ hm) ?_
    have h9 := (hq _ h6).1
    rcases h8 with h8 | h8
    · rw [← h8]; exact h9
    · exact st_same (hs _ h8) h9
  · exact hmi
  · show va_O "java/lang/String" (sk i) _ s s.heap ∧ va_OF "java/lang/String" "coder" "B" (.int 0) (sk i) _ s s.heap ∧ va_OF "java/lang/String" "value" "[B" (.ref (sv i)) (sk i) _ s s.heap ∧ va_T .byte (sv i) ((am_txs.getD i "").length) (fun j => .int (am_byte i j)) _ s s.heap
    rw [hsk i hi, hsv i hi]
    exact (hq i hi).2
  · match i, hi with
    | 0, hi => cases hi; exact e0
    | 1, hi => cases hi; exact e1
    | 2, hi => cases hi; exact e2
    | 3, hi => cases hi; exact e3
    | 4, hi => cases hi; exact e4
    | i + 5, hi => cases hi
  · show va_T .int b L (fun i => st (100 + i)) (fun q => s.heap.size ≤ q) s s.heap
    obtain ⟨scr, h1, h2, h3, h4, h5⟩ := hX
    refine ⟨scr, h1, h2, h3, Nat.le_of_eq h4.symm, by rw [h4], fun j hj => (h5 j hj).trans (congrArg some (hsx j).symm), hA b (Array.getElem?_eq_some_iff.mp h1).1⟩
  · obtain ⟨cell, h1, -⟩ := hT
    exact (Array.getElem?_eq_some_iff.mp h1).1
  · rcases hi with rfl | rfl | rfl
    · exact hr2
    · exact hr3
    · exact hr4
  · show sk i < s.heap.size ∧ sv i < s.heap.size
    rw [hsk i hi, hsv i hi]
    obtain ⟨-, ⟨c1, h1, -⟩, -, -, c2, h2, -⟩ := hq i hi
    exact ⟨(Array.getElem?_eq_some_iff.mp h1).1, (Array.getElem?_eq_some_iff.mp h2).1⟩
end
/-! the claim's words (from kit/laws/SKELETON.whole, its end) -/
def R_law : String := "PondHouseLaw"
def lw_P (b : Addr) (xs : List Int32) (args : Array Value) (s : State) : Prop := args = #[.ref b] ∧ s.IntsAt b xs ∧ xs.length ≤ 384 ∧ (Jvm.Cond.and given_1 narrow_1).before args s = true
def lw_Q (_ : Array Value) (s : State) (o : Outcome) (t : State) : Prop := o = .returned (some (.int 1)) ∧ Framed s o t [] 1200128 5501098
def st_law : Prop := ∀ (G : am_G) (L : Nat) (xs : Nat → Int32), L ≤ 384 → st_LG G L xs → W_L_law G 1500 ((fun _ => none, am_z G, 0) : am_S) (fun v _ => v = 1)
theorem st_old {s t : State} {o : Outcome} {L : List Loc} {k n : Nat} {G : am_G} (hz : am_z G = s.heap.size) (h : FrameEnd s o t L k n) (hL : ∀ z ∈ L, am_A G z.base) : Framed s o t [] k n := by
  obtain ⟨h1, h2, h3, h4, h5, h6, h7, h8⟩ := h
  refine ⟨h1, h2, h3, h4, h5, h6, h7, fun q c hc => ?_⟩
  obtain ⟨c9, e1, e2, e3, e4⟩ := h8 q c hc
  refine ⟨c9, e1, e2, e3, fun i hi => e4 i fun hm => ?_⟩
  have h9 : am_z G ≤ q := hL _ hm
  have h10 := (Array.getElem?_eq_some_iff.mp hc).1
  omega
set_option maxHeartbeats 4000000 in
theorem lw_walk (hlaw : st_law) (l : Launch) (b : Addr) (xs : List Int32) : MetFree l x (headSpec (Jvm.Cond.code x code maxLocals ret :: tables_1) room_1) (lw_P b xs) (fun _ _ _ _ _ => True) lw_Q := by
  refine MetFree.of_bodyS (code := code) (maxLocals := maxLocals) (ret := ret) (by decide) ?_ ?_
  · intro args s m h hn
    obtain ⟨meth, c, h1, h2, h3, h4, h5, h6, -, -⟩ := Cond.code_spec hn (atoms_spec (ws := Jvm.Cond.code x code maxLocals ret :: tables_1) h _ List.mem_cons_self)
    exact ⟨meth, c, h1, h2, h3, h4, h5, h6⟩
  · intro p e s m args below meth c s₁ B hml0 hP _
    obtain ⟨rfl, hx, hbd, hgv⟩ := hP
    obtain ⟨scr, harrAt, hlist, hof, hsmall⟩ := hx
    obtain ⟨hcb, hkn, -, -⟩ := State.arrayAt?_spec harrAt
    have hown : s.vm.findClass R_law = some m.cls := findClass_of_methodNamed B.named
    have hts0 : ∀ c ∈ (Jvm.Cond.code x code maxLocals ret :: tables_1), c.before #[Value.ref b] s = true := atoms_spec (ws := Jvm.Cond.code x code maxLocals ret :: tables_1) B.pre
    have hts : ∀ w ∈ lw_tbl, w.before #[Value.ref b] s = true := k2_hts_sels lw_privs (fun w hw => hts0 w (List.mem_cons_of_mem _ hw)) lw_privs_ok
    have hml : c.maxLocals = 4 := B.maxLocals_eq (hts0 _ List.mem_cons_self)
    have X₀ : Stand p l e room_1 s m #[Value.ref b] below meth c s₁ [] 0 0 := Stand.of_body B
    have hh0 : s₁.heap = s.heap := by rw [B.state]; rfl
    have hsz : scr.slots.size = xs.length := by rw [← Array.length_toList, hlist, List.length_map]
    have hval : ∀ j : Nat, j < xs.length → scr.slots[j]? = some (.int (xs.getD j 0)) := fun j hj => by
      rw [← Array.getElem?_toList, hlist]
      simp [hj]
    have hX : va_X b xs.length (fun j => xs.getD j 0) s s.heap := ⟨scr, hcb, hof, hkn, hsz, hval⟩
    obtain ⟨G, hGl, hGz, hK, hsK, hhK, hLG, hb24⟩ := st_G l hts hgv hX hbd
    subst hGl
    have hW := hlaw G _ _ hbd hLG
    have htab : c.exceptionTable.toList = tableOf m_L_law.2.2.2.2 := by
      obtain ⟨meth9, c9, h1, h2, -, -, -, -, h7, -⟩ := Cond.code_spec B.named (hts0 _ List.mem_cons_self)
      cases Option.some.inj (h1.symm.trans B.method)
      cases Option.some.inj (h2.symm.trans X₀.code)
      have h8 : c.exceptionTable = #[] := by simpa using h7
      rw [h8]
      rfl
    obtain ⟨g1, g2, g3, g4, g5, g6, g7, g8⟩ := hLG
    have hus : am_used (am_z G) s.heap = 0 := by
      unfold am_used
      rw [hGz, List.drop_eq_nil_of_le (by simp)]
      rfl
    have hcx : am_Cx G m_L_law 1500 p room_1 s m meth c := by
      refine ⟨B.exec, B.bytes, B.returns, hml, hown, B.notSynchronized, (name_of_methodNamed B.named B.method).1, htab, ⟨by decide, by decide⟩, ⟨?_, ?_, ?_⟩, hK, hsK, hhK⟩
      · rw [g7, hGz]; exact Nat.le_refl _
      · rw [g8, hus]; decide
      · rw [hGz]; exact Nat.le_refl _
    have hw : am_hw G ((fun _ => none, am_z G, 0) : am_S) s.heap := by
      refine ⟨hGz.symm, hus, ?_, ?_, Nat.le_refl _, fun a e h => by cases h⟩
      · rw [g7]; exact Nat.le_add_right _ _
      · rw [g8]; exact Nat.zero_le _
    have hent : am_ent 0 [Value.ref b] [(0, va_rf (some (am_sk G 24)))] := by
      rw [hb24]
      exact ⟨rfl, Or.inl ⟨rfl, rfl, trivial⟩⟩
    have hl := lv_entry [Value.ref b] (n := 4) (by show 1 ≤ 4; decide)
    obtain ⟨t, a1, o, b1, b2, b3⟩ := hW p e room_1 s m #[Value.ref b] below meth c s.heap [] 0 0 _ hcx hw (fun z hz => by cases hz) ⟨hl.1, hl.2.1, fun q hq => by
      obtain ⟨f1, f2⟩ := hent.has q hq
      exact ⟨hl.2.2 _ f1, f2⟩⟩ s₁ hh0 X₀
    refine ⟨t, o, ?_, b1, b2, ?_⟩
    · have := lg_entry_eq m [Value.ref b] 4
      rw [show (#[Value.ref b] : Array Value) = ([Value.ref b] : List Value).toArray from rfl, show maxLocals = 4 from rfl, this]
      exact a1
    · rcases b3 with ⟨⟨v, σ', rfl, hQ, -⟩, L', hF, hL'⟩ | ⟨q, σ', L', -, hQ, -⟩
      · have hv : v = some (.int 1) := by
          match v, hQ with
          | some (.int z), hQ => rw [show z = 1 from hQ]
        subst hv
        exact ⟨rfl, st_old hGz hF hL'⟩
      · exact (show False from hQ).elim
