/-! ===== the JDK: lists 3 (taking out, comparing) ===== -/
set_option maxHeartbeats 4000000 in
set_option maxRecDepth 100000 in
theorem m_J2_fastRemove (G : zE) (l : Launch) (H0 : Heap) (a ed cap i : Nat) (mz : Int) (rs : List Nat) (hB : Bh G H0) (hab : G.2.heap.size ≤ a) (h : Ob G H0 a 8 [.int (iI mz), .ref ed, .int (iI (rs.length : Int))]) (h2 : EDok G H0 ed rs cap) (hel : ∀ y, y ∈ rs → El G H0 y) (hf : i < rs.length ∧ cap ≤ 40000) {mc ms : Nat}  : zV G l yJ2_fastRemove (ws_ yJ2_fastRemove cJ2_fastRemove 4 (none)) 1 60 mc ms [.ref a, .ref ed, .int (iI ↑i)] H0 (fun H1 => Ob G H1 a 8 [.int (iI (mz + 1)), .ref ed, .int (iI ((rs.length - 1 : Nat) : Int))] ∧ EDok G H1 ed (rmi rs i) cap) (fun q => H0.size ≤ q ∨ q = a ∨ (G.2.heap.size ≤ q ∧ q = ed)) := by
  refine zV.start (cc := cJ2_fastRemove) (by decide) (Nat.le_of_ble_eq_true rfl) ?_
  intro p e s m args below meth c Q cx hQ hmn ls hl
  have hx := cx.1
  have hb := cx.2.1
  have hS : va_S (fun q => H0.size ≤ q ∨ q = a ∨ (G.2.heap.size ≤ q ∧ q = ed)) H0 H0 [] := va_S.rf
  have hl : lv_has ls 4 [(0, .ref a), (1, .ref ed), (2, .int (iI ↑i))] := hl
  have hle := h2.le
  obtain ⟨h5, Ad⟩ : G.2.heap.size ≤ ed ∧ Aq G H0 ed 103 (rs.map some ++ List.replicate (cap - rs.length) none) := by
    rcases h2 with ⟨h5, h6, h7⟩ | ⟨h5, h6, h7, h8⟩
    · rw [h5] at hf; exact absurd hf.1 (Nat.not_lt_zero _)
    · exact ⟨h5, h8⟩
  have hea : ed ≠ a := Ad.cl.ne h.cl cx.kk rfl
  have hl9 : (rs.map some ++ List.replicate (cap - rs.length) (none : Option Nat)).length = cap := by rw [List.length_append, List.length_map, List.length_replicate]; omega
  have hrl := rmi_len hf.1
  have hrep : cap - (rs.length - 1) = (cap - rs.length) + 1 := by omega
  have helk : ∀ H' : Heap, (∀ q : Nat, q ≠ a → H'[q]? = H0[q]?) → Ob G H' a 8 [.int (iI (mz + 1)), .ref ed, .int (iI (rs.length : Int))] → ∀ y, El G H0 y → El G H' y := fun H' hq hb y hy => by
    by_cases hya : y = a
    · subst hya
      exact El.ob cx.kk hb rfl q1421
    · exact hy.kept (hq y hya)
  have hfin : ∀ H' : Heap, Aq G H' ed 103 ((rmi rs i).map some ++ none :: List.replicate (cap - rs.length) none) → EDok G H' ed (rmi rs i) cap := fun H' z => Or.inr ⟨h5, by omega, by omega, by rw [hrl, hrep, List.replicate_succ]; exact z⟩
  refine lv_aload_n hx hb dJ2_fastRemove_0 rfl (lv_at hl 0 rfl) ?_
  refine lv_dup hx hb dJ2_fastRemove_1 rfl ?_
  refine z_getU cx (k0 := 0) h rfl in_J2 (by decide) q93 q92 rfl dJ2_fastRemove_2 ?_
  refine lv_iconst (v := iI (1)) hx hb dJ2_fastRemove_5 rfl ?_
  refine z_iadd cx (z := mz + 1) dJ2_fastRemove_6 (by omega) ?_
  refine z_putU cx (k0 := 0) (vs' := [.int (iI (mz + 1)), .ref ed, .int (iI ↑rs.length)]) h (Or.inr (Or.inl rfl)) hS rfl in_J2 tyJ2_ok nmJ2 (by decide) q93 q92 rfl  rfl (Nat.le_of_ble_eq_true rfl) ⟨rfl, rfl⟩ dJ2_fastRemove_7 (fun H locs h hz9 hq9 hS => ?_)
  have Ad := Ad.kept (hq9 _ hea)
  refine lv_aload_n hx hb dJ2_fastRemove_10 rfl (lv_at hl 0 rfl) ?_
  refine z_get cx (k0 := 2) h rfl in_J2 (by decide) q89 rfl rfl dJ2_fastRemove_11 ?_
  refine lv_iconst (v := iI (1)) hx hb dJ2_fastRemove_14 rfl ?_
  refine z_isub cx (z := ((rs.length - 1 : Nat) : Int)) dJ2_fastRemove_15 (by omega) ?_
  refine lv_dup hx hb dJ2_fastRemove_16 rfl ?_
  refine lv_istore_n (lv' := [(3, .int (iI ((rs.length - 1 : Nat) : Int))), (0, .ref a), (1, .ref ed), (2, .int (iI ↑i))]) hx hb dJ2_fastRemove_17 rfl hl (by decide) rfl (fun ls hl => ?_)
  refine lv_iload_n hx hb dJ2_fastRemove_18 rfl (lv_at hl 3 rfl) ?_
  refine z_icmp_le cx (tgt := 34) dJ2_fastRemove_19 (by decide) (by omega) (fun c19 => ?_) (fun c19 => ?_)
  · have hi9 : i + 1 = rs.length := by omega
    refine lv_aload_n hx hb dJ2_fastRemove_34 rfl (lv_at hl 2 rfl) ?_
    refine lv_aload_n hx hb dJ2_fastRemove_35 rfl (lv_at hl 1 rfl) ?_
    refine lv_iload_n hx hb dJ2_fastRemove_36 rfl (lv_at hl 0 rfl) ?_
    refine lv_dup_x1 hx hb dJ2_fastRemove_37 rfl rfl ?_
    refine z_put cx (k0 := 2) (vs' := [.int (iI (mz + 1)), .ref ed, .int (iI ((rs.length - 1 : Nat) : Int))]) h (Or.inr (Or.inl rfl)) hS rfl in_J2 tyJ2_ok nmJ2 (by decide) q89 rfl rfl  rfl (Nat.le_of_ble_eq_true rfl) ⟨rfl, rfl⟩ dJ2_fastRemove_38 (fun H locs h hz9 hq9 hS => ?_)
    have Ad := Ad.kept (hq9 _ hea)
    refine lv_null hx hb dJ2_fastRemove_41 ?_
    refine z_aastN cx (t0 := 3) Ad rfl (Or.inr (Or.inr ⟨h5, rfl⟩)) hS ((rs.length - 1)) (by omega) dJ2_fastRemove_42 (fun H locs Ad hz9 hq9 hS => ?_)
    have h := h.kept (hq9 _ (Ne.symm hea))
    rw [set_rm hi9] at Ad
    exact z_vret cx hQ rfl (⟨h, hfin _ Ad⟩) hS (by omega) dJ2_fastRemove_43
  · have hel2 : ∀ y, some y ∈ rs.map some ++ List.replicate (cap - rs.length) none → El G H y := fun y hy => by
      rcases List.mem_append.mp hy with z | z
      · obtain ⟨w, hw, e⟩ := List.mem_map.mp z; cases e; exact helk H hq9 h y (hel y hw)
      · have := List.eq_of_mem_replicate z; cases this
    refine lv_aload_n hx hb dJ2_fastRemove_22 rfl (lv_at hl 2 rfl) ?_
    refine lv_iload_n hx hb dJ2_fastRemove_23 rfl (lv_at hl 3 rfl) ?_
    refine lv_iconst (v := iI (1)) hx hb dJ2_fastRemove_24 rfl ?_
    refine z_iadd cx (z := ((i + 1 : Nat) : Int)) dJ2_fastRemove_25 (by omega) ?_
    refine lv_aload_n hx hb dJ2_fastRemove_26 rfl (lv_at hl 2 rfl) ?_
    refine lv_iload_n hx hb dJ2_fastRemove_27 rfl (lv_at hl 3 rfl) ?_
    refine lv_iload_n hx hb dJ2_fastRemove_28 rfl (lv_at hl 0 rfl) ?_
    refine lv_iload_n hx hb dJ2_fastRemove_29 rfl (lv_at hl 3 rfl) ?_
    refine z_isub cx (z := ((rs.length - 1 - i : Nat) : Int)) dJ2_fastRemove_30 (by omega) ?_
    refine z_copyR cx (sp := i + 1) (dp := i) (w := rs.length - 1 - i) (rest := []) Ad Ad (Or.inr (Or.inr ⟨h5, rfl⟩)) hS hel2 ⟨by omega, by omega, by omega⟩ (by (rw [hl9]; omega)) q643 hl (Nat.le_of_ble_eq_true rfl) (by decide) dJ2_fastRemove_31 (fun H locs Ad hz9 hq9 hS => ?_)
    have h := h.kept (hq9 _ (Ne.symm hea))
    have hl8 : (cpyG (rs.map some ++ List.replicate (cap - rs.length) (none : Option Nat)) (rs.map some ++ List.replicate (cap - rs.length) (none : Option Nat)) (i + 1) i (rs.length - 1 - i)).length = cap := by rw [cpyG_len (by rw [hl9]; omega) (by rw [hl9]; omega), hl9]
    refine lv_aload_n hx hb dJ2_fastRemove_34 rfl (lv_at hl 2 rfl) ?_
    refine lv_aload_n hx hb dJ2_fastRemove_35 rfl (lv_at hl 1 rfl) ?_
    refine lv_iload_n hx hb dJ2_fastRemove_36 rfl (lv_at hl 0 rfl) ?_
    refine lv_dup_x1 hx hb dJ2_fastRemove_37 rfl rfl ?_
    refine z_put cx (k0 := 2) (vs' := [.int (iI (mz + 1)), .ref ed, .int (iI ((rs.length - 1 : Nat) : Int))]) h (Or.inr (Or.inl rfl)) hS rfl in_J2 tyJ2_ok nmJ2 (by decide) q89 rfl rfl  rfl (Nat.le_of_ble_eq_true rfl) ⟨rfl, rfl⟩ dJ2_fastRemove_38 (fun H locs h hz9 hq9 hS => ?_)
    have Ad := Ad.kept (hq9 _ hea)
    refine lv_null hx hb dJ2_fastRemove_41 ?_
    refine z_aastN cx (t0 := 3) Ad rfl (Or.inr (Or.inr ⟨h5, rfl⟩)) hS ((rs.length - 1)) (by omega) dJ2_fastRemove_42 (fun H locs Ad hz9 hq9 hS => ?_)
    have h := h.kept (hq9 _ (Ne.symm hea))
    rw [cpy_rm (by omega)] at Ad
    exact z_vret cx hQ rfl (⟨h, hfin _ Ad⟩) hS (by omega) dJ2_fastRemove_43
set_option maxHeartbeats 4000000 in
set_option maxRecDepth 100000 in
theorem m_J2_remove (G : zE) (l : Launch) (H0 : Heap) (a ed cap i : Nat) (mz : Int) (rs : List Nat) (hB : Bh G H0) (hab : G.2.heap.size ≤ a) (h : Ob G H0 a 8 [.int (iI mz), .ref ed, .int (iI (rs.length : Int))]) (h2 : EDok G H0 ed rs cap) (hel : ∀ y, y ∈ rs → El G H0 y) (hf : i < rs.length ∧ cap ≤ 40000) {mc ms : Nat}  : zR G l yJ2_remove (ws_ yJ2_remove cJ2_remove 4 (some (FieldType.object "java/lang/Object"))) 2 83 mc ms [.ref a, .int (iI ↑i)] H0 (fun r H1 => r = .ref (rs.getD i 0) ∧ Ob G H1 a 8 [.int (iI (mz + 1)), .ref ed, .int (iI ((rs.length - 1 : Nat) : Int))] ∧ EDok G H1 ed (rmi rs i) cap) (fun q => H0.size ≤ q ∨ q = a ∨ (G.2.heap.size ≤ q ∧ q = ed)) := by
  refine zR.start (cc := cJ2_remove) (by decide) (Nat.le_of_ble_eq_true rfl) ?_
  intro p e s m args below meth c Q cx hQ hmn ls hl
  have hx := cx.1
  have hb := cx.2.1
  have hS : va_S (fun q => H0.size ≤ q ∨ q = a ∨ (G.2.heap.size ≤ q ∧ q = ed)) H0 H0 [] := va_S.rf
  have hl : lv_has ls 4 [(0, .ref a), (1, .int (iI ↑i))] := hl
  have hle := h2.le
  have hgi := getDn hf.1
  refine lv_iload_n hx hb dJ2_remove_0 rfl (lv_at hl 1 rfl) ?_
  refine lv_aload_n hx hb dJ2_remove_1 rfl (lv_at hl 0 rfl) ?_
  refine z_get cx (k0 := 2) h rfl in_J2 (by decide) q89 rfl rfl dJ2_remove_2 ?_
  refine z_callS cx (j := 2) (m_J18_checkIndex G l _ i rs.length ⟨hf.1, by omega⟩ (mc := 0) (ms := 0)) (lw_S q553 q554 q54 q555) (by decide +kernel) rfl (rest := []) rfl hl (Nat.le_of_ble_eq_true rfl) (by decide) (by omega) dJ2_remove_5 hS (fun q h => Or.inl (Nat.le_trans hS.1 h)) (fun v5 H locs hp5 hz9 hk9 hS => ?_)
  have hE9 := Ext.of hz9 hk9 (fun q h => h)
  have h := h.ext hE9
  have h2 := h2.ext hE9
  subst hp5
  have hel : ∀ y, y ∈ rs → El G H y := fun y hy => (hel y hy).ext hE9
  have hB := hB.ext hE9
  refine lv_pop hx hb dJ2_remove_8 rfl ?_
  refine lv_aload_n hx hb dJ2_remove_9 rfl (lv_at hl 0 rfl) ?_
  refine z_get cx (k0 := 1) h rfl in_J2 (by decide) q86 rfl rfl dJ2_remove_10 ?_
  refine lv_astore_n (lv' := [(2, .ref ed), (0, .ref a), (1, .int (iI ↑i))]) hx hb dJ2_remove_13 rfl hl (by decide) rfl (fun ls hl => ?_)
  refine lv_aload_n hx hb dJ2_remove_14 rfl (lv_at hl 0 rfl) ?_
  refine lv_iload_n hx hb dJ2_remove_15 rfl (lv_at hl 2 rfl) ?_
  refine z_aaldE cx h2 (i) (by omega) dJ2_remove_16 (fun x16 hx16 => ?_)
  refine lv_astore_n (lv' := [(3, .ref x16), (2, .ref ed), (0, .ref a), (1, .int (iI ↑i))]) hx hb dJ2_remove_17 rfl hl (by decide) rfl (fun ls hl => ?_)
  refine lv_aload_n hx hb dJ2_remove_18 rfl (lv_at hl 2 rfl) ?_
  refine lv_aload_n hx hb dJ2_remove_19 rfl (lv_at hl 1 rfl) ?_
  refine lv_iload_n hx hb dJ2_remove_20 rfl (lv_at hl 3 rfl) ?_
  rw [hgi] at hx16
  cases hx16
  refine z_callVv cx (j := 2) (m_J2_fastRemove G l _ a ed cap i mz rs hB hab h h2 hel hf (mc := 0) (ms := 0)) (lw_V q639 q641 qs6 q35 q642) (zrecv cx h rfl) (by decide +kernel) rfl (rest := []) rfl hl (Nat.le_of_ble_eq_true rfl) (by decide) (by omega) dJ2_remove_21 hS (fun q h => by rcases h with h | h; exact Or.inl (Nat.le_trans hS.1 h); exact Or.inr h) (fun H locs hp21 hz9 hk9 hS => ?_)
  obtain ⟨h, h2⟩ := hp21
  refine lv_aload_n hx hb dJ2_remove_24 rfl (lv_at hl 0 rfl) ?_
  exact z_aret cx hQ rfl (Or.inl ⟨_, rfl⟩) (⟨rfl, h, h2⟩) hS (by omega) dJ2_remove_25
set_option maxHeartbeats 4000000 in
set_option maxRecDepth 100000 in
theorem m_J22_equals (G : zE) (l : Launch) (H0 : Heap) (a b : Nat) {mc ms : Nat}  : zR G l yJ22_equals (ws_ yJ22_equals cJ22_equals 2 (some FieldType.boolean)) 0 0 mc ms [.ref a, .ref b] H0 (fun r _ => r = .int (iI (b2i (decide (a = b))))) (Pur H0) := by
  refine zR.startF (cc := cJ22_equals) (by decide +kernel) (Nat.le_of_ble_eq_true rfl) ?_
  intro p e s m args below meth c Q cx hQ hmn ls hl
  have hx := cx.1
  have hb := cx.2.1
  have hS : va_S (Pur H0) H0 H0 [] := va_S.rf
  have hl : lv_has ls 2 [(0, .ref a), (1, .ref b)] := hl
  refine lv_aload_n hx hb dJ22_equals_0 rfl (lv_at hl 0 rfl) ?_
  refine lv_aload_n hx hb dJ22_equals_1 rfl (lv_at hl 1 rfl) ?_
  refine lv_acmp_ne (rx := (some a)) (ry := (some b)) (tgt := 9) hx hb dJ22_equals_2 (by decide) (fun c2 => ?_) (fun c2 => ?_)
  · refine lv_iconst (v := iI (0)) hx hb dJ22_equals_9 rfl ?_
    have hne : ¬ a = b := fun e => c2 (by rw [e])
    exact z_iret cx hQ rfl rfl (by rw [decide_eq_false hne]; rfl) hS (by omega) dJ22_equals_10
  · refine lv_iconst (v := iI (1)) hx hb dJ22_equals_5 rfl ?_
    refine lv_goto (tgt := 10) hx hb dJ22_equals_6 (by decide) ?_
    exact z_iret cx hQ rfl rfl (by rw [decide_eq_true (Option.some.inj c2)]; rfl) hS (by omega) dJ22_equals_10
set_option maxHeartbeats 4000000 in
set_option maxRecDepth 100000 in
theorem m_J2_remove_2 (G : zE) (l : Launch) (H0 : Heap) (a ed cap i t : Nat) (mz : Int) (rs : List Nat) (ws : List Value) (hB : Bh G H0) (hab : G.2.heap.size ≤ a) (h : Ob G H0 a 8 [.int (iI mz), .ref ed, .int (iI (rs.length : Int))]) (h2 : EDok G H0 ed rs cap) (hel : ∀ y, y ∈ rs → El G H0 y) (hf : i < rs.length ∧ cap ≤ 40000) (ht : Ob G H0 t 4 ws) (hi : rs[i]? = some t) (hfi : ∀ j, j < i → ¬ rs[j]? = some t) {mc ms : Nat}  : zR G l yJ2_remove_2 (ws_ yJ2_remove_2 cJ2_remove_2 5 (some FieldType.boolean)) 2 83 mc ms [.ref a, .ref t] H0 (fun r H1 => r = .int (iI 1) ∧ Ob G H1 a 8 [.int (iI (mz + 1)), .ref ed, .int (iI ((rs.length - 1 : Nat) : Int))] ∧ EDok G H1 ed (rmi rs i) cap) (fun q => H0.size ≤ q ∨ q = a ∨ (G.2.heap.size ≤ q ∧ q = ed)) := by
  refine zR.start (cc := cJ2_remove_2) (by decide) (Nat.le_of_ble_eq_true rfl) ?_
  intro p e s m args below meth c Q cx hQ hmn ls hl
  have hx := cx.1
  have hb := cx.2.1
  have hS : va_S (fun q => H0.size ≤ q ∨ q = a ∨ (G.2.heap.size ≤ q ∧ q = ed)) H0 H0 [] := va_S.rf
  have hl : lv_has ls 5 [(0, .ref a), (1, .ref t)] := hl
  have hle := h2.le
  refine lv_aload_n hx hb dJ2_remove_2_0 rfl (lv_at hl 0 rfl) ?_
  refine z_get cx (k0 := 1) h rfl in_J2 (by decide) q86 rfl rfl dJ2_remove_2_1 ?_
  refine lv_astore_n (lv' := [(2, .ref ed), (0, .ref a), (1, .ref t)]) hx hb dJ2_remove_2_4 rfl hl (by decide) rfl (fun ls hl => ?_)
  refine lv_aload_n hx hb dJ2_remove_2_5 rfl (lv_at hl 1 rfl) ?_
  refine z_get cx (k0 := 2) h rfl in_J2 (by decide) q89 rfl rfl dJ2_remove_2_6 ?_
  refine lv_istore_n (lv' := [(3, .int (iI ↑rs.length)), (2, .ref ed), (0, .ref a), (1, .ref t)]) hx hb dJ2_remove_2_9 rfl hl (by decide) rfl (fun ls hl => ?_)
  refine lv_iconst (v := iI (0)) hx hb dJ2_remove_2_10 rfl ?_
  refine lv_istore (lv' := [(4, .int (iI 0)), (3, .int (iI ↑rs.length)), (2, .ref ed), (0, .ref a), (1, .ref t)]) hx hb dJ2_remove_2_11 hl (by decide) rfl (fun ls hl => ?_)
  refine lv_aload_n hx hb dJ2_remove_2_13 rfl (lv_at hl 4 rfl) ?_
  refine lv_ifnonnull (tgt := 39) hx hb dJ2_remove_2_14 (by decide) ?_
  have lp : ∀ (fuel : Nat) (j : Nat), (i - j) < fuel → (j ≤ i) → ∀ (H : Heap) (locs : List Loc) (ls : Array Slot) (k n : Nat), va_S (fun q => H0.size ≤ q ∨ q = a ∨ (G.2.heap.size ≤ q ∧ q = ed)) H0 H locs → Ob G H a 8 [.int (iI mz), .ref ed, .int (iI ↑rs.length)] → EDok G H ed rs cap → (Ob G H t 4 ws) → (Ext H0 H) → (k ≤ mc) → (n ≤ ms) → lv_has ls 5 [(0, .ref a), (1, .ref t), (2, .ref ed), (3, .int (iI ↑rs.length)), (4, .int (iI ↑j))] → W p l e ⟨2, mc, ms, 83⟩ s m args below meth c H locs k n Q (F0 m 39 ls []) := by
    intro fuel
    induction fuel with
    | zero => intro j hf9; exact absurd hf9 (Nat.not_lt_zero _)
    | succ fuel ih_lp =>
      intro j hf9 hj H locs ls k n hS h h2 ht hE hr1 hr2 hl
      refine lv_iload hx hb dJ2_remove_2_39 (lv_at hl 4 rfl) ?_
      refine lv_iload_n hx hb dJ2_remove_2_41 rfl (lv_at hl 3 rfl) ?_
      refine z_icmp_ge cx (tgt := 65) dJ2_remove_2_42 (by decide) (by omega) (fun c42 => (by exfalso; omega)) (fun c42 => ?_)
      refine lv_aload_n hx hb dJ2_remove_2_45 rfl (lv_at hl 1 rfl) ?_
      refine lv_aload_n hx hb dJ2_remove_2_46 rfl (lv_at hl 2 rfl) ?_
      refine lv_iload hx hb dJ2_remove_2_47 (lv_at hl 4 rfl) ?_
      refine z_aaldE cx h2 (j) (by omega) dJ2_remove_2_49 (fun y hy => ?_)
      refine z_callU cx (j := 1) (m_J22_equals G l _ t y (mc := 0) (ms := 0)) (lw_U q1077 q964 q969 q963 q1418 q980) rfl (zrecv cx ht rfl) (by decide +kernel) rfl (rest := []) rfl hl (Nat.le_of_ble_eq_true rfl) (by decide) (by omega) dJ2_remove_2_50 hS (fun q h => Or.inl (Nat.le_trans hS.1 h)) (fun v50 H locs hp50 hz9 hk9 hS => ?_)
      have hE9 := Ext.of hz9 hk9 (fun q h => h)
      have h := h.ext hE9
      have h2 := h2.ext hE9
      have ht := ht.ext hE9
      have hb50 := b2i_rg (decide (t = y))
      subst hp50
      have hE2 := hE.trans hE9
      have hgs := hS.1
      refine z_if_eq cx (tgt := 59) dJ2_remove_2_53 (by decide) (by omega) (fun c53 => ?_) (fun c53 => ?_)
      · have hne := b2i_F c53
        have hji : ¬ j = i := fun e => by subst e; rw [hi] at hy; cases hy; exact hne rfl
        refine z_iinc cx (j := 4) (z := ((j + 1 : Nat) : Int)) (lv' := [(4, .int (iI ((j + 1 : Nat) : Int))), (0, .ref a), (1, .ref t), (2, .ref ed), (3, .int (iI ↑rs.length))]) dJ2_remove_2_59 hl rfl (by omega) (by decide) rfl (fun ls hl => ?_)
        refine lv_goto (tgt := 39) hx hb dJ2_remove_2_62 (by decide) ?_
        exact ih_lp (j + 1) (by omega) (by omega) _ _ _ _ _ hS h h2 ht hE2 (by omega) (by omega) (lv_sub hl [1, 2, 3, 4, 0] rfl)
      · have heq := b2i_T c53
        have hji : j = i := by
          by_cases e : j = i
          · exact e
          · exact absurd (by rw [heq]; exact hy) (hfi j (by omega))
        subst hji
        have hel2 : ∀ z, z ∈ rs → El G H z := fun z hz => (hel z hz).ext hE2
        have hB2 := hB.ext hE2
        refine lv_goto (tgt := 67) hx hb dJ2_remove_2_56 (by decide) ?_
        refine lv_aload_n hx hb dJ2_remove_2_67 rfl (lv_at hl 0 rfl) ?_
        refine lv_aload_n hx hb dJ2_remove_2_68 rfl (lv_at hl 2 rfl) ?_
        refine lv_iload hx hb dJ2_remove_2_69 (lv_at hl 4 rfl) ?_
        refine z_callVv cx (j := 2) (m_J2_fastRemove G l _ a ed cap j mz rs hB2 hab h h2 hel2 hf (mc := 0) (ms := 0)) (lw_V q639 q641 qs6 q35 q642) (zrecv cx h rfl) (by decide +kernel) rfl (rest := []) rfl hl (Nat.le_of_ble_eq_true rfl) (by decide) (by omega) dJ2_remove_2_71 hS (fun q h => by rcases h with h | h; exact Or.inl (Nat.le_trans hS.1 h); exact Or.inr h) (fun H locs hp71 hz9 hk9 hS => ?_)
        obtain ⟨h, h2⟩ := hp71
        refine lv_iconst (v := iI (1)) hx hb dJ2_remove_2_74 rfl ?_
        exact z_iret cx hQ rfl rfl (⟨rfl, h, h2⟩) hS (by omega) dJ2_remove_2_75
  exact lp _ 0 (Nat.lt_succ_self _) (by omega) _ _ _ _ _ hS h h2 ht Ext.rf (by omega) (by omega) (lv_sub hl [3, 4, 2, 1, 0] rfl)
