/-! ===== what the store keeps from call to call: pure ===== -/
theorem vsz_mem {ts : List Th} {t : Th} {i : Nat} (h : ts[i]? = some t) : vsz (rmi ts i) + (tVary t).length = vsz ts := by
  obtain ⟨h1, h2⟩ := List.getElem?_eq_some_iff.mp h
  have e : ts = ts.take i ++ (t :: ts.drop (i + 1)) := by rw [← h2, ← List.drop_eq_getElem_cons h1, List.take_append_drop]
  have e2 : vsz ts = vsz (ts.take i) + ((tVary t).length + vsz (ts.drop (i + 1))) := by
    have := congrArg vsz e
    rw [vsz_app, vsz_cons] at this
    exact this
  unfold rmi
  rw [vsz_app, e2]; omega
theorem vsz_rmi (ts : List Th) (i : Nat) : vsz (rmi ts i) ≤ vsz ts := by
  cases h : ts[i]? with
  | none =>
    have h1 := List.getElem?_eq_none_iff.mp h
    unfold rmi
    rw [List.take_of_length_le (by omega), List.drop_eq_nil_of_le (by omega), List.append_nil]
    exact Nat.le_refl _
  | some t => have := vsz_mem h; omega
theorem vsz_set (ts : List Th) (i : Nat) (t : Th) (u : Nat) (h : ts[i]? = some t) : vsz (ts.set i (useT t u)) = vsz ts := by
  have e : (ts.set i (useT t u)).map (fun t => (tVary t).length) = ts.map (fun t => (tVary t).length) := by
    refine List.ext_getElem? (fun j => ?_)
    rw [List.getElem?_map, List.getElem?_map, List.getElem?_set]
    split
    · rename_i hj
      rw [← hj]
      split
      · rw [h]; rfl
      · rename_i h2; rw [List.getElem?_eq_none_iff.mpr (by omega)]
    · rfl
  unfold vsz
  rw [e]
theorem vsz_filter (q : Th → Bool) : ∀ ts : List Th, vsz (ts.filter q) ≤ vsz ts
  | [] => Nat.le_refl _
  | t :: ts => by
    have := vsz_filter q ts
    rw [vsz_cons, List.filter_cons]
    split
    · rw [vsz_cons]; omega
    · omega
theorem mem_set {A : Type} {xs : List A} {i : Nat} {y x : A} (h : x ∈ xs.set i y) : x = y ∨ x ∈ xs := by
  rcases List.mem_or_eq_of_mem_set h with z | z
  · exact Or.inr z
  · exact Or.inl z
/-! sizes -/
theorem RI.mono {S S' : Nat} {g : Sg} {A K c : Nat} (h : RI S g A K c) (hS : S ≤ S') : RI S' g A K c := ⟨h.1, h.2.1, h.2.2.1, h.2.2.2.1, Nat.le_trans h.2.2.2.2 hS⟩
theorem RI.rd {S : Nat} {g : Sg} {A K c : Nat} (h : RI S g A K c) : RI S (rdS g) A K (c + (gTape g).length) := ⟨h.1, h.2.1, h.2.2.1, Nat.le_trans h.2.2.2.1 (Nat.le_add_right _ _), h.2.2.2.2⟩
theorem RI.ask {S : Nat} {g : Sg} {A K c : Nat} (h : RI S g A K c) (p : Int) : RI S (askS g p) (A + (gTape g).length) K (c + (gTape g).length) := by
  obtain ⟨h1, h2, h3, h4, h5⟩ := h
  have hn := rdX_nsz g
  have base : ∀ (ts : List Th) (u : Nat), (∀ t ∈ ts, ThR (A + (gTape g).length) t) → vsz ts = vsz (gTs g) → RI S (([], -1, gTime g, rdX g, ts, u) : Sg) (A + (gTape g).length) K (c + (gTape g).length) := fun ts u i1 i2 => ⟨i1, by show vsz ts = 0 ∨ 2 * vsz ts + 12 ≤ K; rw [i2]; exact h2, by show nsz (rdX g) ≤ _; omega, by omega, by show _ + 0 ≤ S; omega⟩
  have h1' : ∀ t ∈ gTs g, ThR (A + (gTape g).length) t := fun t ht => (h1 t ht).mono (by omega)
  unfold askS
  split
  · split
    · exact base _ _ h1' rfl
    · rename_i t ht
      refine base _ _ (fun y hy => ?_) (vsz_set _ _ _ _ ht)
      rcases mem_set hy with z | z
      · rw [z]; exact h1' t (List.mem_of_getElem? ht)
      · exact h1' y z
  · exact base _ _ h1' rfl
theorem RI.agn {S : Nat} {g : Sg} {A K c : Nat} (h : RI S g A K c) (p : Int) : RI S (agnS g p) A K (c + (gTape g).length) := by
  obtain ⟨h1, h2, h3, h4, h5⟩ := h
  have base : ∀ (ts : List Th) (u : Nat), (∀ t ∈ ts, ThR A t) → vsz ts = vsz (gTs g) → RI S (([], -1, gTime g, gReq g, ts, u) : Sg) A K (c + (gTape g).length) := fun ts u i1 i2 => ⟨i1, by show vsz ts = 0 ∨ 2 * vsz ts + 12 ≤ K; rw [i2]; exact h2, h3, by omega, by show _ + 0 ≤ S; omega⟩
  unfold agnS
  split
  · split
    · exact base _ _ h1 rfl
    · rename_i t ht
      refine base _ _ (fun y hy => ?_) ?_
      · rcases List.mem_append.mp hy with z | z
        · exact h1 y (rmi_mem z)
        · rw [List.mem_singleton.mp z]; exact h1 t (List.mem_of_getElem? ht)
      · have := vsz_mem ht
        rw [vsz_app]
        show _ + ((tVary t).length + 0) = _
        omega
  · exact base _ _ h1 rfl
/-- what may be kept took a line more -/
theorem kMay_n {g : Sg} {p : Int} (h : kMay g p = true) : kVy (rdX g) = [] ∨ 2 * (kVy (rdX g)).length + 12 ≤ (gTape g).length := by
  have hn := rdX_nsz g
  rcases kVy_len (rdX g) with z | ⟨z, -⟩
  · exact Or.inl z
  · right
    have key : ∀ (nm v : List Int), nm ≠ nVary → vof (rdX g) nm = some v → nm.length + v.length ≥ 5 → 2 * (kVy (rdX g)).length + 12 ≤ (gTape g).length := fun nm v h1 h2 h3 => by
      have a1 := szN2 h1 (rdX g)
      have a2 := vof_len h2
      omega
    unfold kMay at h
    rw [Bool.and_eq_true, Bool.or_eq_true, decide_eq_true_eq, decide_eq_true_eq] at h
    rcases h.2 with h | h
    · have h : 0 < lifeOf (wrd (vof (rdX g) nCc) nSm) (wrd (vof (rdX g) nCc) nMa) (rdX g) := h
      cases hc : vof (rdX g) nCc with
      | some v => exact key nCc v (by decide) hc (by show 13 + _ ≥ 5; omega)
      | none =>
        rw [hc] at h
        have h : 0 < btw (rdX g) := h
        unfold btw at h
        split at h
        · rename_i hb
          unfold nIn at hb
          cases he : vof (rdX g) nExp with
          | none => rw [he] at hb; exact absurd hb.1 (by decide)
          | some v => exact key nExp v (by decide) he (by show 7 + _ ≥ 5; omega)
        · exact absurd h (by decide)
    · cases he : etg (rdX g) with
      | none => exact absurd he h
      | some y =>
        obtain ⟨e1, e2⟩ := etg_of he
        have := List.length_pos_iff.mpr e2
        exact key nEtag y (by decide) e1 (by show 4 + _ ≥ 5; omega)
theorem RI.keep {S : Nat} {g : Sg} {A K c : Nat} (h : RI S g A K c) (p : Int) : RI S (keepS g p) A (K + (gTape g).length) (c + (gTape g).length) := by
  obtain ⟨h1, h2, h3, h4, h5⟩ := h
  have hT1 : ∀ t ∈ kTs1 g p, ThR A t := fun t ht => h1 t (kTs1_mem ht)
  have hv1 : vsz (kTs1 g p) ≤ vsz (gTs g) := by
    unfold kTs1
    split
    · exact Nat.le_refl _
    · exact vsz_rmi _ _
  have hK := kTh_R h3 p
  unfold keepS
  split
  · rename_i hm
    have hv2 : vsz (kTs2 g p) = vsz (kTs1 g p) + (kVy (rdX g)).length := by
      unfold kTs2
      rw [vsz_app]
      rfl
    have hv3 : vsz (kTs3 g p) ≤ vsz (kTs2 g p) := by
      unfold kTs3
      split
      · exact vsz_rmi _ _
      · exact Nat.le_refl _
    have hT2 : ∀ t ∈ kTs2 g p, ThR A t := fun t ht => by
      rcases List.mem_append.mp ht with z | z
      · exact hT1 t z
      · rw [List.mem_singleton.mp z]; exact hK
    have hT3 : ∀ t ∈ kTs3 g p, ThR A t := fun t ht => by
      unfold kTs3 at ht
      split at ht
      · exact hT2 t (rmi_mem ht)
      · exact hT2 t ht
    refine ⟨hT3, ?_, h3, by omega, by show _ + 0 ≤ S; omega⟩
    show vsz (kTs3 g p) = 0 ∨ 2 * vsz (kTs3 g p) + 12 ≤ K + (gTape g).length
    rcases kMay_n hm with z | z
    · rw [z] at hv2
      have hv2 : vsz (kTs2 g p) = vsz (kTs1 g p) + 0 := hv2
      omega
    · omega
  · refine ⟨hT1, ?_, h3, by omega, by show _ + 0 ≤ S; omega⟩
    show vsz (kTs1 g p) = 0 ∨ 2 * vsz (kTs1 g p) + 12 ≤ K + (gTape g).length
    omega
theorem RI.filter {S : Nat} {g : Sg} {A K c : Nat} (h : RI S g A K c) (q : Th → Bool) : RI S (gTape g, gFault g, gTime g, gReq g, (gTs g).filter q, gUse g) A K c := by
  have := vsz_filter q (gTs g)
  exact ⟨fun t ht => h.1 t (List.mem_filter.mp ht).1, by show vsz ((gTs g).filter q) = 0 ∨ 2 * vsz ((gTs g).filter q) + 12 ≤ K; have := h.2.1; omega, h.2.2⟩
/-! places and uses -/
def tKey (t : Th) : Int × List (List Int) × List (List Int) := (tPath t, tVary t, (tVals t).map lsO)
theorem Lk_key {a b : Th} : Lk a b ↔ tKey a = tKey b := by
  unfold Lk tKey
  rw [Prod.mk.injEq, Prod.mk.injEq]
  exact ⟨fun h => ⟨h.1.symm, h.2.1.symm, h.2.2.symm⟩, fun h => ⟨h.1.symm, h.2.1.symm, h.2.2.symm⟩⟩
theorem NLk_key {ts : List Th} : NLk ts ↔ (ts.map tKey).Nodup := by
  unfold NLk List.Nodup
  rw [List.pairwise_map]
  constructor
  · exact fun h => h.imp (fun z e => z (Lk_key.mpr e))
  · exact fun h => h.imp (fun z e => z (Lk_key.mp e))
/-- no two alike; no use later than the last; not more uses than calls -/
def SI (g : Sg) (j : Nat) : Prop := NLk (gTs g) ∧ (∀ t ∈ gTs g, tUsed t ≤ gUse g) ∧ gUse g ≤ j
theorem SI.mono {g : Sg} {j j' : Nat} (h : SI g j) (hj : j ≤ j') : SI g j' := ⟨h.1, h.2.1, Nat.le_trans h.2.2 hj⟩
theorem SI.ask {g : Sg} {j : Nat} (h : SI g j) (p : Int) : SI (askS g p) (j + 1) := by
  obtain ⟨h1, h2, h3⟩ := h
  unfold askS
  split
  · split
    · exact ⟨h1, h2, Nat.le_succ_of_le h3⟩
    · rename_i t ht
      refine ⟨?_, fun y hy => ?_, Nat.succ_le_succ h3⟩
      · rw [NLk_key] at h1 ⊢
        have e : ((gTs g).set (lix (isOne (rdX g) p) (gTs g) 0 (-1)).toNat (useT t (gUse g + 1))).map tKey = (gTs g).map tKey := by
          refine List.ext_getElem? (fun j => ?_)
          rw [List.getElem?_map, List.getElem?_map, List.getElem?_set]
          split
          · rename_i hj
            rw [← hj]
            split
            · rw [ht]; rfl
            · rename_i h2; rw [List.getElem?_eq_none_iff.mpr (by omega)]
          · rfl
        show (((gTs g).set _ _).map tKey).Nodup
        rw [e]; exact h1
      · rcases mem_set hy with z | z
        · rw [z]; exact Nat.le_refl _
        · exact Nat.le_succ_of_le (h2 y z)
  · exact ⟨h1, h2, Nat.le_succ_of_le h3⟩
theorem SI.rd {g : Sg} {j : Nat} (h : SI g j) : SI (rdS g) j := h
theorem SI.filter {g : Sg} {j : Nat} (h : SI g j) (q : Th → Bool) : SI (gTape g, gFault g, gTime g, gReq g, (gTs g).filter q, gUse g) j := ⟨h.1.sublist List.filter_sublist, fun t ht => h.2.1 t (List.mem_filter.mp ht).1, h.2.2⟩
theorem SI.agn {g : Sg} {j : Nat} (h : SI g j) (p : Int) : SI (agnS g p) (j + 1) := by
  obtain ⟨h1, h2, h3⟩ := h
  unfold agnS
  split
  · split
    · exact ⟨h1, h2, Nat.le_succ_of_le h3⟩
    · rename_i t ht
      refine ⟨?_, fun y hy => ?_, Nat.succ_le_succ h3⟩
      · rw [NLk_key] at h1 ⊢
        show ((rmi (gTs g) _ ++ [useT (agnT g t) (gUse g + 1)]).map tKey).Nodup
        have e : (rmi (gTs g) (agnI g p).toNat).map tKey = rmi ((gTs g).map tKey) (agnI g p).toNat := by
          unfold rmi
          rw [List.map_append, List.map_take, List.map_drop]
        have hk : ((gTs g).map tKey)[(agnI g p).toNat]? = some (tKey t) := by rw [List.getElem?_map, ht]; rfl
        rw [List.map_append, e, List.nodup_append]
        refine ⟨h1.sublist (rmi_sub _ _), List.nodup_cons.mpr ⟨by simp, List.nodup_nil⟩, fun a ha b hb hab => ?_⟩
        have hb : b = tKey t := List.mem_singleton.mp hb
        rw [hab, hb] at ha
        -- the key stands once alone
        obtain ⟨i1, i2⟩ := List.getElem?_eq_some_iff.mp hk
        have hp := List.pairwise_iff_getElem.mp h1
        rcases List.mem_append.mp ha with z | z
        · obtain ⟨q, hq, e9⟩ := List.mem_take_iff_getElem.mp z
          have hq2 : q < (agnI g p).toNat ∧ q < ((gTs g).map tKey).length := by omega
          exact hp q _ hq2.2 i1 hq2.1 (e9.trans i2.symm)
        · obtain ⟨q, hq, e9⟩ := List.mem_drop_iff_getElem.mp z
          exact hp _ ((agnI g p).toNat + 1 + q) i1 (by omega) (by omega) (i2.trans e9.symm)
      · rcases List.mem_append.mp hy with z | z
        · exact Nat.le_succ_of_le (h2 y (rmi_mem z))
        · rw [List.mem_singleton.mp z]; exact Nat.le_refl _
  · exact ⟨h1, h2, Nat.le_succ_of_le h3⟩
theorem isLk_lk {g t : Th} (hg : (tVals g).length = (tVary g).length) (ht : (tVals t).length = (tVary t).length) : isLk g t = true ↔ Lk g t := by
  rw [isLk_eq hg ht]
  simp only [Bool.and_eq_true, decide_eq_true_eq, Lk, and_assoc]
theorem lk_one {g : Th} (hg : (tVals g).length = (tVary g).length) : ∀ (ts : List Th), (∀ t ∈ ts, (tVals t).length = (tVary t).length) → NLk ts → (ts.filter (isLk g)).length ≤ 1
  | [], _, _ => Nat.zero_le _
  | t :: ts, ho, hn => by
    have hn2 := List.pairwise_cons.mp hn
    cases hq : isLk g t with
    | false =>
      rw [List.filter_cons_of_neg (by rw [hq]; decide)]
      exact lk_one hg ts (fun a ha => ho a (List.mem_cons_of_mem _ ha)) hn2.2
    | true =>
      have h0 : ts.filter (isLk g) = [] := List.filter_eq_nil_iff.mpr (fun a ha hl => hn2.1 a ha (((isLk_lk hg (ho t List.mem_cons_self)).mp hq).sym.tr ((isLk_lk hg (ho a (List.mem_cons_of_mem _ ha))).mp hl)))
      rw [List.filter_cons_of_pos hq, h0]
      exact Nat.le_refl _
theorem SI.keep {S A K c : Nat} {g : Sg} {j : Nat} (h : SI g j) (hR : RI S g A K c) (p : Int) : SI (keepS g p) (j + 1) := by
  obtain ⟨h1, h2, h3⟩ := h
  have hg : (tVals (kTh g p)).length = (tVary (kTh g p)).length := (kTh_R hR.2.2.1 p).2.2
  have ho : ∀ t ∈ gTs g, (tVals t).length = (tVary t).length := fun t ht => (hR.1 t ht).2.2
  have hk1 : kTs1 g p = (gTs g).filter (fun t => !isLk (kTh g p) t) := by
    rw [fix1_dr _ _ 0 (lk_one hg _ ho h1), kTs1]
    split
    · rfl
    · rw [show (fix1 (isLk (kTh g p)) (gTs g) 0 - ((0 : Nat) : Int)) = fix1 (isLk (kTh g p)) (gTs g) 0 by omega]
  have hn1 : NLk (kTs1 g p) := by rw [hk1]; exact h1.sublist List.filter_sublist
  have hu1 : ∀ t ∈ kTs1 g p, tUsed t ≤ gUse g := fun t ht => h2 t (kTs1_mem ht)
  unfold keepS
  split
  · have hn2 : NLk (kTs2 g p) := by
      unfold kTs2 NLk
      rw [List.pairwise_append]
      refine ⟨hn1, List.pairwise_singleton _ _, fun a ha b hb hl => ?_⟩
      have hb : b = useT (kTh g p) (gUse g + 1) := List.mem_singleton.mp hb
      rw [hk1] at ha
      obtain ⟨a1, a2⟩ := List.mem_filter.mp ha
      have hl : Lk a (kTh g p) := by rw [hb] at hl; exact hl
      rw [(isLk_lk hg (ho a a1)).mpr hl.sym] at a2
      exact absurd a2 (by decide)
    have hu2 : ∀ t ∈ kTs2 g p, tUsed t ≤ gUse g + 1 := fun t ht => by
      rcases List.mem_append.mp ht with z | z
      · exact Nat.le_succ_of_le (hu1 t z)
      · rw [List.mem_singleton.mp z]; exact Nat.le_refl _
    refine ⟨?_, fun t ht => ?_, Nat.succ_le_succ h3⟩
    · show NLk (kTs3 g p)
      unfold kTs3
      split
      · exact List.Pairwise.sublist (rmi_sub _ _) hn2
      · exact hn2
    · have ht : t ∈ kTs3 g p := ht
      unfold kTs3 at ht
      split at ht
      · exact hu2 t (rmi_mem ht)
      · exact hu2 t ht
  · exact ⟨hn1, hu1, Nat.le_succ_of_le h3⟩
