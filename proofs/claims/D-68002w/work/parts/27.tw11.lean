/-! ===== the model: the row of things ===== -/
set_option maxHeartbeats 4000000 in
set_option maxRecDepth 100000 in
theorem m_X4_isPath (G : zE) (l : Launch) (H0 : Heap) (z : Int) (hz : rg z) {mc ms : Nat}  : zR G l yX4_isPath (ws_ yX4_isPath cX4_isPath 1 (some FieldType.boolean)) 0 0 mc ms [.int (iI z)] H0 (fun r _ => r = .int (iI (b2i (decide (0 ≤ z ∧ z < 16))))) (Pur H0) := by
  refine zR.start (cc := cX4_isPath) (by decide) (Nat.le_of_ble_eq_true rfl) ?_
  intro p e s m args below meth c Q cx hQ hmn ls hl
  have hx := cx.1
  have hb := cx.2.1
  have hS : va_S (Pur H0) H0 H0 [] := va_S.rf
  have hl : lv_has ls 1 [(0, .int (iI z))] := hl
  refine lv_iload_n hx hb dX4_isPath_0 rfl (lv_at hl 0 rfl) ?_
  refine z_if_lt cx (tgt := 14) dX4_isPath_1 (by decide) (by omega) (fun c1 => ?_) (fun c1 => ?_)
  · refine lv_iconst (v := iI (0)) hx hb dX4_isPath_14 rfl ?_
    exact z_iret cx hQ rfl rfl (by simp only [b2i, decide_eq_true_eq]; congr 2; split <;> omega) hS (by omega) dX4_isPath_15
  · refine lv_iload_n hx hb dX4_isPath_4 rfl (lv_at hl 0 rfl) ?_
    refine lv_bipush (v := iI (16)) hx hb dX4_isPath_5 (by decide) ?_
    refine z_icmp_ge cx (tgt := 14) dX4_isPath_7 (by decide) (by omega) (fun c7 => ?_) (fun c7 => ?_)
    · refine lv_iconst (v := iI (0)) hx hb dX4_isPath_14 rfl ?_
      exact z_iret cx hQ rfl rfl (by simp only [b2i, decide_eq_true_eq]; congr 2; split <;> omega) hS (by omega) dX4_isPath_15
    · refine lv_iconst (v := iI (1)) hx hb dX4_isPath_10 rfl ?_
      refine lv_goto (tgt := 15) hx hb dX4_isPath_11 (by decide) ?_
      exact z_iret cx hQ rfl rfl (by simp only [b2i, decide_eq_true_eq]; congr 2; split <;> omega) hS (by omega) dX4_isPath_15
set_option maxHeartbeats 4000000 in
set_option maxRecDepth 100000 in
theorem m_X4_takeOut (G : zE) (l : Launch) (H0 : Heap) (x th i : Nat) (as : List Nat) (r : Nat) (u0 u1 u2 u3 u4 u5 u6 : Value) (hx9 : Ob G H0 x 5 [u0, u1, u2, u3, u4, u5, u6, .ref th, .int (iI (as.length : Int))]) (hth : Aq G H0 th 104 (as.map some ++ List.replicate r none)) (hT : ∀ a ∈ as, ∃ vs, Ob G H0 a 7 vs) (hi : i < as.length) (hn : as.length + r ≤ 1000) {mc ms : Nat}  : zV G l yX4_takeOut (ws_ yX4_takeOut cX4_takeOut 3 (none)) 0 0 mc ms [.ref x, .int (iI ↑i)] H0 (fun H1 => Ob G H1 x 5 [u0, u1, u2, u3, u4, u5, u6, .ref th, .int (iI ((as.length - 1 : Nat) : Int))] ∧ Aq G H1 th 104 ((rmi as i).map some ++ List.replicate (r + 1) none)) (fun q => H0.size ≤ q ∨ q = x ∨ q = th) := by
  refine zV.start (cc := cX4_takeOut) (by decide) (Nat.le_of_ble_eq_true rfl) ?_
  intro p e s m args below meth c Q cx hQ hmn ls hl
  have hx := cx.1
  have hb := cx.2.1
  have hS : va_S (fun q => H0.size ≤ q ∨ q = x ∨ q = th) H0 H0 [] := va_S.rf
  have hl : lv_has ls 3 [(0, .ref x), (1, .int (iI ↑i))] := hl
  have hne : th ≠ x := hth.cl.ne hx9.cl cx.kk rfl
  have hT5 : ∀ a ∈ as, a ≠ x ∧ a ≠ th := fun a ha => by obtain ⟨vs, h⟩ := hT a ha; exact ⟨h.cl.ne hx9.cl cx.kk rfl, h.cl.ne hth.cl cx.kk rfl⟩
  refine lv_aload_n hx hb dX4_takeOut_0 rfl (lv_at hl 0 rfl) ?_
  refine lv_dup hx hb dX4_takeOut_1 rfl ?_
  refine z_get cx (k0 := 8) hx9 rfl in_X4 (by decide) q1163 rfl rfl dX4_takeOut_2 ?_
  refine lv_iconst (v := iI (1)) hx hb dX4_takeOut_5 rfl ?_
  refine z_isub cx (z := ((as.length - 1 : Nat) : Int)) dX4_takeOut_6 (by omega) ?_
  refine z_put cx (k0 := 8) (vs' := [u0, u1, u2, u3, u4, u5, u6, .ref th, .int (iI ((as.length - 1 : Nat) : Int))]) hx9 (Or.inr (Or.inl rfl)) hS rfl in_X4 tyX4_ok nmX4 (by decide) q1163 rfl rfl  rfl (Nat.le_of_ble_eq_true rfl) ⟨rfl, rfl⟩ dX4_takeOut_7 (fun H locs hx9 hz9 hq9 hS => ?_)
  have hth := hth.kept (hq9 _ hne)
  have hT : ∀ a ∈ as, ∃ vs, Ob G H a 7 vs := fun a ha => by obtain ⟨vs, h⟩ := hT a ha; exact ⟨vs, h.kept (hq9 a (hT5 a ha).1)⟩
  refine lv_iload_n hx hb dX4_takeOut_10 rfl (lv_at hl 1 rfl) ?_
  refine lv_istore_n (lv' := [(2, .int (iI ↑i)), (0, .ref x), (1, .int (iI ↑i))]) hx hb dX4_takeOut_11 rfl hl (by decide) rfl (fun ls hl => ?_)
  have lp : ∀ (fuel : Nat) (j : Nat), (as.length - 1 - j) < fuel → (i ≤ j ∧ j ≤ as.length - 1) → ∀ (H : Heap) (locs : List Loc) (ls : Array Slot) (k n : Nat), va_S (fun q => H0.size ≤ q ∨ q = x ∨ q = th) H0 H locs → Ob G H x 5 [u0, u1, u2, u3, u4, u5, u6, .ref th, .int (iI ((as.length - 1 : Nat) : Int))] → Aq G H th 104 (shf (as.map some) i j ++ List.replicate r none) → (∀ a ∈ as, ∃ vs, Ob G H a 7 vs) → (k ≤ mc) → (n ≤ ms) → lv_has ls 3 [(0, .ref x), (2, .int (iI ↑j))] → W p l e ⟨0, mc, ms, 0⟩ s m args below meth c H locs k n Q (F0 m 12 ls []) := by
    intro fuel
    induction fuel with
    | zero => intro j hf9; exact absurd hf9 (Nat.not_lt_zero _)
    | succ fuel ih_lp =>
      intro j hf9 hj H locs ls k n hS hx9 hth hT hr1 hr2 hl
      have hL : (shf (as.map some) i j ++ List.replicate r none).length = as.length + r := by rw [List.length_append, shf_len hj.1 (by rw [List.length_map]; omega), List.length_map, List.length_replicate]
      refine lv_iload_n hx hb dX4_takeOut_12 rfl (lv_at hl 1 rfl) ?_
      refine lv_aload_n hx hb dX4_takeOut_13 rfl (lv_at hl 0 rfl) ?_
      refine z_get cx (k0 := 8) hx9 rfl in_X4 (by decide) q1163 rfl rfl dX4_takeOut_14 ?_
      refine z_icmp_ge cx (tgt := 40) dX4_takeOut_17 (by decide) (by omega) (fun c17 => ?_) (fun c17 => ?_)
      · have e1 : j = as.length - 1 := by omega
        subst e1
        refine lv_aload_n hx hb dX4_takeOut_40 rfl (lv_at hl 0 rfl) ?_
        refine z_get cx (k0 := 7) hx9 rfl in_X4 (by decide) q1162 rfl rfl dX4_takeOut_41 ?_
        refine lv_aload_n hx hb dX4_takeOut_44 rfl (lv_at hl 0 rfl) ?_
        refine z_get cx (k0 := 8) hx9 rfl in_X4 (by decide) q1163 rfl rfl dX4_takeOut_45 ?_
        refine lv_null hx hb dX4_takeOut_48 ?_
        refine z_aastN cx (t0 := 4) hth rfl (Or.inr (Or.inr rfl)) hS (as.length - 1) (by omega) dX4_takeOut_49 (fun H locs hth hz9 hq9 hS => ?_)
        have hx9 := hx9.kept (hq9 _ (Ne.symm hne))
        rw [shf_end hj.1 (by rw [List.length_map]; omega)] at hth
        exact z_vret cx hQ rfl (⟨hx9, by rw [rmi_map]; exact hth⟩) hS (by omega) dX4_takeOut_50
      · refine lv_aload_n hx hb dX4_takeOut_20 rfl (lv_at hl 0 rfl) ?_
        refine z_get cx (k0 := 7) hx9 rfl in_X4 (by decide) q1162 rfl rfl dX4_takeOut_21 ?_
        refine lv_iload_n hx hb dX4_takeOut_24 rfl (lv_at hl 1 rfl) ?_
        refine lv_aload_n hx hb dX4_takeOut_25 rfl (lv_at hl 0 rfl) ?_
        refine z_get cx (k0 := 7) hx9 rfl in_X4 (by decide) q1162 rfl rfl dX4_takeOut_26 ?_
        refine lv_iload_n hx hb dX4_takeOut_29 rfl (lv_at hl 1 rfl) ?_
        refine lv_iconst (v := iI (1)) hx hb dX4_takeOut_30 rfl ?_
        refine z_iadd cx (z := ((j + 1 : Nat) : Int)) dX4_takeOut_31 (by omega) ?_
        refine z_aald cx (t0 := 4) hth rfl rfl (j + 1) (by omega) dX4_takeOut_32 (fun x32 hx32 => ?_)
        rw [shf_get hj.1 (by rw [List.length_map]; omega), List.getElem?_map] at hx32
        have hj1 : j + 1 < as.length := by omega
        rw [List.getElem?_eq_getElem hj1] at hx32
        obtain rfl := Option.some.inj hx32
        obtain ⟨vs, hv9⟩ := hT _ (List.getElem_mem hj1)
        refine z_aastT cx hth hv9 (Or.inr (Or.inr rfl)) hS (j) (by omega) dX4_takeOut_33 (fun H locs hth hz9 hq9 hS => ?_)
        have hx9 := hx9.kept (hq9 _ (Ne.symm hne))
        have hT : ∀ a ∈ as, ∃ vs, Ob G H a 7 vs := fun a ha => by obtain ⟨vs, h⟩ := hT a ha; exact ⟨vs, h.kept (hq9 a (hT5 a ha).2)⟩
        rw [shf_set hj.1 (by rw [List.getElem?_map, List.getElem?_eq_getElem hj1]; rfl)] at hth
        refine z_iinc cx (j := 1) (z := ((j + 1 : Nat) : Int)) (lv' := [(2, .int (iI ((j + 1 : Nat) : Int))), (0, .ref x)]) dX4_takeOut_34 hl rfl (by omega) (by decide) rfl (fun ls hl => ?_)
        refine lv_goto (tgt := 12) hx hb dX4_takeOut_37 (by decide) ?_
        exact ih_lp (j + 1) (by omega) (by omega) _ _ _ _ _ hS hx9 hth hT (by omega) (by omega) (lv_sub hl [1, 0] rfl)
  exact lp _ i (Nat.lt_succ_self _) (by omega) _ _ _ _ _ hS hx9 (by rw [shf_0]; exact hth) hT (by omega) (by omega) (lv_sub hl [1, 0] rfl)
set_option maxHeartbeats 4000000 in
set_option maxRecDepth 100000 in
theorem m_X4_putLast (G : zE) (l : Launch) (H0 : Heap) (x th g : Nat) (as : List Nat) (r : Nat) (ev : Int64) (f0 f1 f2 f3 f4 f5 f6 f7 f8 f9 f10 f11 : Value) (u0 u1 u2 u3 u4 u6 : Value) (hx9 : Ob G H0 x 5 [u0, u1, u2, u3, u4, .long ev, u6, .ref th, .int (iI (as.length : Int))]) (hth : Aq G H0 th 104 (as.map some ++ List.replicate (r + 1) none)) (hg9 : Ob G H0 g 7 [f0, f1, f2, f3, f4, f5, f6, f7, f8, f9, f10, f11]) (hn : as.length + r ≤ 1000) {mc ms : Nat}  : zV G l yX4_putLast (ws_ yX4_putLast cX4_putLast 2 (none)) 1 21 mc ms [.ref x, .ref g] H0 (fun H1 => Ob G H1 x 5 [u0, u1, u2, u3, u4, .long (ev + 1), u6, .ref th, .int (iI ((as.length + 1 : Nat) : Int))] ∧ Aq G H1 th 104 ((as ++ [g]).map some ++ List.replicate r none) ∧ Ob G H1 g 7 [f0, f1, f2, f3, f4, f5, f6, f7, f8, f9, f10, .long (ev + 1)]) (fun q => H0.size ≤ q ∨ q = x ∨ q = th ∨ q = g) := by
  refine zV.start (cc := cX4_putLast) (by decide) (Nat.le_of_ble_eq_true rfl) ?_
  intro p e s m args below meth c Q cx hQ hmn ls hl
  have hx := cx.1
  have hb := cx.2.1
  have hS : va_S (fun q => H0.size ≤ q ∨ q = x ∨ q = th ∨ q = g) H0 H0 [] := va_S.rf
  have hl : lv_has ls 2 [(0, .ref x), (1, .ref g)] := hl
  have hne : th ≠ x := hth.cl.ne hx9.cl cx.kk rfl
  have hgx : g ≠ x := hg9.cl.ne hx9.cl cx.kk rfl
  have hgt : g ≠ th := hg9.cl.ne hth.cl cx.kk rfl
  have hL : (as.map some ++ List.replicate (r + 1) none).length = as.length + (r + 1) := by rw [List.length_append, List.length_map, List.length_replicate]
  refine lv_aload_n hx hb dX4_putLast_0 rfl (lv_at hl 0 rfl) ?_
  refine z_get cx (k0 := 7) hx9 rfl in_X4 (by decide) q1162 rfl rfl dX4_putLast_1 ?_
  refine lv_aload_n hx hb dX4_putLast_4 rfl (lv_at hl 0 rfl) ?_
  refine z_get cx (k0 := 8) hx9 rfl in_X4 (by decide) q1163 rfl rfl dX4_putLast_5 ?_
  refine lv_aload_n hx hb dX4_putLast_8 rfl (lv_at hl 1 rfl) ?_
  refine z_aastT cx hth hg9 (Or.inr (Or.inr (Or.inl rfl))) hS (as.length) (by omega) dX4_putLast_9 (fun H locs hth hz9 hq9 hS => ?_)
  have hx9 := hx9.kept (hq9 _ (Ne.symm hne))
  have hg9 := hg9.kept (hq9 _ hgt)
  refine lv_aload_n hx hb dX4_putLast_10 rfl (lv_at hl 0 rfl) ?_
  refine lv_dup hx hb dX4_putLast_11 rfl ?_
  refine z_get cx (k0 := 8) hx9 rfl in_X4 (by decide) q1163 rfl rfl dX4_putLast_12 ?_
  refine lv_iconst (v := iI (1)) hx hb dX4_putLast_15 rfl ?_
  refine z_iadd cx (z := ((as.length + 1 : Nat) : Int)) dX4_putLast_16 (by omega) ?_
  refine z_put cx (k0 := 8) (vs' := [u0, u1, u2, u3, u4, .long ev, u6, .ref th, .int (iI ((as.length + 1 : Nat) : Int))]) hx9 (Or.inr (Or.inl rfl)) hS rfl in_X4 tyX4_ok nmX4 (by decide) q1163 rfl rfl  rfl (Nat.le_of_ble_eq_true rfl) ⟨rfl, rfl⟩ dX4_putLast_17 (fun H locs hx9 hz9 hq9 hS => ?_)
  have hth := hth.kept (hq9 _ hne)
  have hg9 := hg9.kept (hq9 _ hgx)
  refine lv_aload_n hx hb dX4_putLast_20 rfl (lv_at hl 0 rfl) ?_
  refine lv_aload_n hx hb dX4_putLast_21 rfl (lv_at hl 1 rfl) ?_
  rw [fillq_set (by rw [List.length_map])] at hth
  have hth : Aq G H th 104 ((as ++ [g]).map some ++ List.replicate r none) := by rw [List.map_append]; exact hth
  have hS9 := hS.1
  refine z_callVv cx (j := 1) (m_X4_use G l _ x g ev f0 f1 f2 f3 f4 f5 f6 f7 f8 f9 f10 f11 u0 u1 u2 u3 u4 u6 (.ref th) (.int (iI ((as.length + 1 : Nat) : Int))) hg9 hx9 (Ne.symm hgx) (mc := 0) (ms := 0)) (lw_V q1280 q1282 qs24 q57 q1283) (zrecv cx hx9 rfl) (by decide +kernel) rfl (rest := []) rfl hl (Nat.le_of_ble_eq_true rfl) (by decide) (by omega) dX4_putLast_22 hS (fun q h => by rcases h with h | h | h; exact Or.inl (Nat.le_trans hS.1 h); exact Or.inr (Or.inl h); exact Or.inr (Or.inr (Or.inr h))) (fun H locs hp22 hz9 hk9 hS => ?_)
  obtain ⟨hg9, hx9⟩ := hp22
  have hth := hth.kept (hk9 th hth.lt (by rintro (h | h | h); exact absurd hth.lt (Nat.not_lt.mpr h); exact hne h; exact hgt h.symm))
  exact z_vret cx hQ rfl (⟨hx9, hth, hg9⟩) hS (by omega) dX4_putLast_25
