/-! ===== the model's rows: same, small letters, joined, numbers, names ===== -/
set_option maxHeartbeats 4000000 in
set_option maxRecDepth 100000 in
theorem m_X4_same (G : zE) (l : Launch) (H0 : Heap) (a b : Nat) (xs ys : List Int) (ha : Ai G H0 a 101 xs) (hb9 : Ai G H0 b 101 ys) (hcx : chs xs) (hcy : chs ys) (hn : xs.length ≤ 100000 ∧ ys.length ≤ 100000) {mc ms : Nat}  : zR G l yX4_same (ws_ yX4_same cX4_same 3 (some FieldType.boolean)) 0 0 mc ms [.ref a, .ref b] H0 (fun r _ => r = .int (iI (b2i (decide (xs = ys))))) (Pur H0) := by
  refine zR.start (cc := cX4_same) (by decide) (Nat.le_of_ble_eq_true rfl) ?_
  intro p e s m args below meth c Q cx hQ hmn ls hl
  have hx := cx.1
  have hb := cx.2.1
  have hS : va_S (Pur H0) H0 H0 [] := va_S.rf
  have hl : lv_has ls 3 [(0, .ref a), (1, .ref b)] := hl
  refine lv_aload_n hx hb dX4_same_0 rfl (lv_at hl 0 rfl) ?_
  refine z_alen cx ha dX4_same_1 ?_
  refine lv_aload_n hx hb dX4_same_2 rfl (lv_at hl 1 rfl) ?_
  refine z_alen cx hb9 dX4_same_3 ?_
  refine z_icmp_eq cx (tgt := 9) dX4_same_4 (by decide) (by omega) (fun c4 => ?_) (fun c4 => ?_)
  · refine lv_iconst (v := iI (0)) hx hb dX4_same_9 rfl ?_
    refine lv_istore_n (lv' := [(2, .int (iI 0)), (0, .ref a), (1, .ref b)]) hx hb dX4_same_10 rfl hl (by decide) rfl (fun ls hl => ?_)
    have lp : ∀ (fuel : Nat) (j : Nat), (xs.length - j) < fuel → (j ≤ xs.length) → (xs = ys ↔ xs.drop j = ys.drop j) → ∀ (H : Heap) (locs : List Loc) (ls : Array Slot) (k n : Nat), va_S (Pur H0) H0 H locs → (k ≤ mc) → (n ≤ ms) → lv_has ls 3 [(0, .ref a), (1, .ref b), (2, .int (iI ↑j))] → W p l e ⟨0, mc, ms, 0⟩ s m args below meth c H locs k n Q (F0 m 11 ls []) := by
      intro fuel
      induction fuel with
      | zero => intro j hf9; exact absurd hf9 (Nat.not_lt_zero _)
      | succ fuel ih_lp =>
        intro j hf9 hj hd H locs ls k n hS  hr1 hr2 hl
        refine lv_iload_n hx hb dX4_same_11 rfl (lv_at hl 2 rfl) ?_
        refine lv_aload_n hx hb dX4_same_12 rfl (lv_at hl 0 rfl) ?_
        refine z_alen cx (ha.ext (Ext.ofS hS)) dX4_same_13 ?_
        refine z_icmp_ge cx (tgt := 34) dX4_same_14 (by decide) (by omega) (fun c14 => ?_) (fun c14 => ?_)
        · have e1 : xs = ys := hd.mpr (by rw [List.drop_eq_nil_of_le (by omega), List.drop_eq_nil_of_le (by omega)])
          refine lv_iconst (v := iI (1)) hx hb dX4_same_34 rfl ?_
          exact z_iret cx hQ rfl rfl (by rw [decide_eq_true e1]; rfl) hS (by omega) dX4_same_35
        · refine lv_aload_n hx hb dX4_same_17 rfl (lv_at hl 0 rfl) ?_
          refine lv_iload_n hx hb dX4_same_18 rfl (lv_at hl 2 rfl) ?_
          refine z_iald cx (ha.ext (Ext.ofS hS)) (j) (by omega) dX4_same_19 (fun x19 hx19 => ?_)
          have bx19 := hcx _ (List.mem_of_getElem? hx19)
          refine lv_aload_n hx hb dX4_same_20 rfl (lv_at hl 1 rfl) ?_
          refine lv_iload_n hx hb dX4_same_21 rfl (lv_at hl 2 rfl) ?_
          refine z_iald cx (hb9.ext (Ext.ofS hS)) (j) (by omega) dX4_same_22 (fun x22 hx22 => ?_)
          have bx22 := hcy _ (List.mem_of_getElem? hx22)
          refine z_icmp_eq cx (tgt := 28) dX4_same_23 (by decide) (by omega) (fun c23 => ?_) (fun c23 => ?_)
          · refine z_iinc cx (j := 2) (z := ((j + 1 : Nat) : Int)) (lv' := [(2, .int (iI ((j + 1 : Nat) : Int))), (0, .ref a), (1, .ref b)]) dX4_same_28 hl rfl (by omega) (by decide) rfl (fun ls hl => ?_)
            refine lv_goto (tgt := 11) hx hb dX4_same_31 (by decide) ?_
            exact ih_lp (j + 1) (by omega) (by omega) (hd.trans ((eq_drop hx19 hx22).trans ⟨fun h => h.2, fun h => ⟨c23, h⟩⟩)) _ _ _ _ _ hS  (by omega) (by omega) (lv_sub hl [1, 2, 0] rfl)
          · refine lv_iconst (v := iI (0)) hx hb dX4_same_26 rfl ?_
            exact z_iret cx hQ rfl rfl (by rw [decide_eq_false (fun h => c23 ((eq_drop hx19 hx22).mp (hd.mp h)).1)]; rfl) hS (by omega) dX4_same_27
    exact lp _ 0 (Nat.lt_succ_self _) (by omega) Iff.rfl _ _ _ _ _ hS  (by omega) (by omega) (lv_sub hl [1, 2, 0] rfl)
  · refine lv_iconst (v := iI (0)) hx hb dX4_same_7 rfl ?_
    exact z_iret cx hQ rfl rfl (by rw [decide_eq_false (fun h => c4 (by rw [h]))]; rfl) hS (by omega) dX4_same_8
set_option maxHeartbeats 4000000 in
set_option maxRecDepth 100000 in
theorem m_X4_smallOf (G : zE) (l : Launch) (H0 : Heap) (a : Nat) (xs : List Int) (ha : Ai G H0 a 101 xs) (hcx : chs xs) (hn : xs.length ≤ 100000) {mc ms : Nat} (hmc : 1 ≤ mc) (hms : xs.length ≤ ms) : zR G l yX4_smallOf (ws_ yX4_smallOf cX4_smallOf 3 (some (FieldType.array FieldType.int))) 1 20 mc ms [.ref a] H0 (fun r H1 => ∃ b : Nat, r = .ref b ∧ H0.size ≤ b ∧ Ai G H1 b 101 (xs.map smI)) (Pur H0) := by
  refine zR.start (cc := cX4_smallOf) (by decide) (Nat.le_of_ble_eq_true rfl) ?_
  intro p e s m args below meth c Q cx hQ hmn ls hl
  have hx := cx.1
  have hb := cx.2.1
  have hS : va_S (Pur H0) H0 H0 [] := va_S.rf
  have hl : lv_has ls 3 [(0, .ref a)] := hl
  refine lv_aload_n hx hb dX4_smallOf_0 rfl (lv_at hl 0 rfl) ?_
  refine z_alen cx ha dX4_smallOf_1 ?_
  refine z_newI cx hS q1152 (xs.length) (by omega) (by omega) dX4_smallOf_2 (fun r H hr hgr Ar hz9 hE9 hS => ?_)
  refine lv_astore_n (lv' := [(1, .ref r), (0, .ref a)]) hx hb dX4_smallOf_4 rfl hl (by decide) rfl (fun ls hl => ?_)
  refine lv_iconst (v := iI (0)) hx hb dX4_smallOf_5 rfl ?_
  refine lv_istore_n (lv' := [(2, .int (iI 0)), (1, .ref r), (0, .ref a)]) hx hb dX4_smallOf_6 rfl hl (by decide) rfl (fun ls hl => ?_)
  have lp : ∀ (fuel : Nat) (r j : Nat), (xs.length - j) < fuel → (j ≤ xs.length) → (H0.size ≤ r) → ∀ (H : Heap) (locs : List Loc) (ls : Array Slot) (k n : Nat), va_S (Pur H0) H0 H locs → Ai G H r 101 ((sl xs 0 j).map smI ++ List.replicate (xs.length - j) 0) → (k ≤ mc) → (n ≤ ms) → lv_has ls 3 [(0, .ref a), (1, .ref r), (2, .int (iI ↑j))] → W p l e ⟨1, mc, ms, 20⟩ s m args below meth c H locs k n Q (F0 m 7 ls []) := by
    intro fuel
    induction fuel with
    | zero => intro r j hf9; exact absurd hf9 (Nat.not_lt_zero _)
    | succ fuel ih_lp =>
      intro r j hf9 hj hrr H locs ls k n hS Ar hr1 hr2 hl
      have hLr : ((sl xs 0 j).map smI ++ List.replicate (xs.length - j) 0).length = xs.length := by rw [List.length_append, List.length_map, sl_len (by omega), List.length_replicate]; omega
      refine lv_iload_n hx hb dX4_smallOf_7 rfl (lv_at hl 2 rfl) ?_
      refine lv_aload_n hx hb dX4_smallOf_8 rfl (lv_at hl 0 rfl) ?_
      refine z_alen cx (ha.ext (Ext.ofS hS)) dX4_smallOf_9 ?_
      refine z_icmp_ge cx (tgt := 28) dX4_smallOf_10 (by decide) (by omega) (fun c10 => ?_) (fun c10 => ?_)
      · have e1 : j = xs.length := by omega
        rw [e1, Nat.sub_self, List.replicate_zero, List.append_nil, sl_all] at Ar
        refine lv_aload_n hx hb dX4_smallOf_28 rfl (lv_at hl 1 rfl) ?_
        exact z_aret cx hQ rfl (Or.inr ⟨_, rfl⟩) (⟨r, rfl, hrr, Ar⟩) hS (by omega) dX4_smallOf_29
      · refine lv_aload_n hx hb dX4_smallOf_13 rfl (lv_at hl 1 rfl) ?_
        refine lv_iload_n hx hb dX4_smallOf_14 rfl (lv_at hl 2 rfl) ?_
        refine lv_aload_n hx hb dX4_smallOf_15 rfl (lv_at hl 0 rfl) ?_
        refine lv_iload_n hx hb dX4_smallOf_16 rfl (lv_at hl 2 rfl) ?_
        refine z_iald cx (ha.ext (Ext.ofS hS)) (j) (by omega) dX4_smallOf_17 (fun x17 hx17 => ?_)
        have bx17 := hcx _ (List.mem_of_getElem? hx17)
        refine z_callS cx (j := 1) (m_X4_small G l _ x17 (by omega) (mc := 0) (ms := 0)) (lw_S q1223 q1224 q57 q1225) (by decide +kernel) rfl (rest := [.int (iI ↑j), .ref r]) rfl hl (Nat.le_of_ble_eq_true rfl) (by decide) (by omega) dX4_smallOf_18 hS (fun q h => Nat.le_trans hS.1 h) (fun v18 H locs hp18 hz9 hk9 hS => ?_)
        have hE9 := Ext.of hz9 hk9 (fun q h => h)
        have Ar := Ar.ext hE9
        subst hp18
        refine z_iast cx Ar hrr hS (j) (by omega) dX4_smallOf_21 (fun H locs Ar hz9 hq9 hS => ?_)
        have e2 : xs.length - j = (xs.length - (j + 1)) + 1 := by omega
        rw [e2, map_fill hx17] at Ar
        refine z_iinc cx (j := 2) (z := ((j + 1 : Nat) : Int)) (lv' := [(2, .int (iI ((j + 1 : Nat) : Int))), (0, .ref a), (1, .ref r)]) dX4_smallOf_22 hl rfl (by omega) (by decide) rfl (fun ls hl => ?_)
        refine lv_goto (tgt := 7) hx hb dX4_smallOf_25 (by decide) ?_
        exact ih_lp r (j + 1) (by omega) (by omega) (by omega) _ _ _ _ _ hS Ar (by omega) (by omega) (lv_sub hl [1, 2, 0] rfl)
  exact lp _ r 0 (Nat.lt_succ_self _) (by omega) hgr _ _ _ _ _ hS (by rw [sl_nil (Nat.le_refl 0)]; exact Ar) (by omega) (by omega) (lv_sub hl [2, 1, 0] rfl)
set_option maxHeartbeats 4000000 in
set_option maxRecDepth 100000 in
theorem m_X4_joined (G : zE) (l : Launch) (H0 : Heap) (a b : Nat) (xs ys : List Int) (ha : Ai G H0 a 101 xs) (hb9 : Ai G H0 b 101 ys) (hcx : chs xs) (hcy : chs ys) (hn : xs.length ≤ 40000 ∧ ys.length ≤ 40000) {mc ms : Nat} (hmc : 1 ≤ mc) (hms : xs.length + 1 + ys.length ≤ ms) : zR G l yX4_joined (ws_ yX4_joined cX4_joined 4 (some (FieldType.array FieldType.int))) 0 0 mc ms [.ref a, .ref b] H0 (fun r H1 => ∃ b : Nat, r = .ref b ∧ H0.size ≤ b ∧ Ai G H1 b 101 (xs ++ 44 :: ys)) (Pur H0) := by
  refine zR.start (cc := cX4_joined) (by decide) (Nat.le_of_ble_eq_true rfl) ?_
  intro p e s m args below meth c Q cx hQ hmn ls hl
  have hx := cx.1
  have hb := cx.2.1
  have hS : va_S (Pur H0) H0 H0 [] := va_S.rf
  have hl : lv_has ls 4 [(0, .ref a), (1, .ref b)] := hl
  have lp2 : ∀ (fuel : Nat) (r j : Nat), (ys.length - j) < fuel → (j ≤ ys.length) → (H0.size ≤ r) → ∀ (H : Heap) (locs : List Loc) (ls : Array Slot) (k n : Nat), va_S (Pur H0) H0 H locs → Ai G H r 101 ((xs ++ [44]) ++ sl ys 0 j ++ List.replicate (ys.length - j) 0) → (k ≤ mc) → (n ≤ ms) → lv_has ls 4 [(0, .ref a), (1, .ref b), (2, .ref r), (3, .int (iI ↑j))] → W p l e ⟨0, mc, ms, 0⟩ s m args below meth c H locs k n Q (F0 m 38 ls []) := by
    intro fuel
    induction fuel with
    | zero => intro r j hf9; exact absurd hf9 (Nat.not_lt_zero _)
    | succ fuel ih_lp2 =>
      intro r j hf9 hj hrr H locs ls k n hS Ar hr1 hr2 hl
      have hLr : ((xs ++ [44]) ++ sl ys 0 j ++ List.replicate (ys.length - j) 0).length = xs.length + 1 + ys.length := by rw [List.length_append, List.length_append, List.length_append, sl_len (by omega), List.length_replicate, List.length_singleton]; omega
      refine lv_iload_n hx hb dX4_joined_38 rfl (lv_at hl 3 rfl) ?_
      refine lv_aload_n hx hb dX4_joined_39 rfl (lv_at hl 1 rfl) ?_
      refine z_alen cx (hb9.ext (Ext.ofS hS)) dX4_joined_40 ?_
      refine z_icmp_ge cx (tgt := 61) dX4_joined_41 (by decide) (by omega) (fun c41 => ?_) (fun c41 => ?_)
      · have e1 : j = ys.length := by omega
        rw [e1, Nat.sub_self, List.replicate_zero, List.append_nil, sl_all, List.append_assoc] at Ar
        refine lv_aload_n hx hb dX4_joined_61 rfl (lv_at hl 2 rfl) ?_
        exact z_aret cx hQ rfl (Or.inr ⟨_, rfl⟩) (⟨r, rfl, hrr, Ar⟩) hS (by omega) dX4_joined_62
      · refine lv_aload_n hx hb dX4_joined_44 rfl (lv_at hl 2 rfl) ?_
        refine lv_aload_n hx hb dX4_joined_45 rfl (lv_at hl 0 rfl) ?_
        refine z_alen cx (ha.ext (Ext.ofS hS)) dX4_joined_46 ?_
        refine lv_iconst (v := iI (1)) hx hb dX4_joined_47 rfl ?_
        refine z_iadd cx (z := ((xs.length + 1 : Nat) : Int)) dX4_joined_48 (by omega) ?_
        refine lv_iload_n hx hb dX4_joined_49 rfl (lv_at hl 3 rfl) ?_
        refine z_iadd cx (z := ((xs.length + 1 + j : Nat) : Int)) dX4_joined_50 (by omega) ?_
        refine lv_aload_n hx hb dX4_joined_51 rfl (lv_at hl 1 rfl) ?_
        refine lv_iload_n hx hb dX4_joined_52 rfl (lv_at hl 3 rfl) ?_
        refine z_iald cx (hb9.ext (Ext.ofS hS)) (j) (by omega) dX4_joined_53 (fun x53 hx53 => ?_)
        have bx53 := hcy _ (List.mem_of_getElem? hx53)
        refine z_iast cx Ar hrr hS (xs.length + 1 + j) (by omega) dX4_joined_54 (fun H locs Ar hz9 hq9 hS => ?_)
        have e2 : ys.length - j = (ys.length - (j + 1)) + 1 := by omega
        rw [e2, app_fill hx53 (by rw [List.length_append]; rfl)] at Ar
        refine z_iinc cx (j := 3) (z := ((j + 1 : Nat) : Int)) (lv' := [(3, .int (iI ((j + 1 : Nat) : Int))), (0, .ref a), (1, .ref b), (2, .ref r)]) dX4_joined_55 hl rfl (by omega) (by decide) rfl (fun ls hl => ?_)
        refine lv_goto (tgt := 38) hx hb dX4_joined_58 (by decide) ?_
        exact ih_lp2 r (j + 1) (by omega) (by omega) (by omega) _ _ _ _ _ hS Ar (by omega) (by omega) (lv_sub hl [1, 2, 3, 0] rfl)
  refine lv_aload_n hx hb dX4_joined_0 rfl (lv_at hl 0 rfl) ?_
  refine z_alen cx ha dX4_joined_1 ?_
  refine lv_iconst (v := iI (1)) hx hb dX4_joined_2 rfl ?_
  refine z_iadd cx (z := ((xs.length + 1 : Nat) : Int)) dX4_joined_3 (by omega) ?_
  refine lv_aload_n hx hb dX4_joined_4 rfl (lv_at hl 1 rfl) ?_
  refine z_alen cx hb9 dX4_joined_5 ?_
  refine z_iadd cx (z := ((xs.length + 1 + ys.length : Nat) : Int)) dX4_joined_6 (by omega) ?_
  refine z_newI cx hS q1152 (xs.length + 1 + ys.length) (by omega) (by omega) dX4_joined_7 (fun r H hr hgr Ar hz9 hE9 hS => ?_)
  refine lv_astore_n (lv' := [(2, .ref r), (0, .ref a), (1, .ref b)]) hx hb dX4_joined_9 rfl hl (by decide) rfl (fun ls hl => ?_)
  refine lv_iconst (v := iI (0)) hx hb dX4_joined_10 rfl ?_
  refine lv_istore_n (lv' := [(3, .int (iI 0)), (2, .ref r), (0, .ref a), (1, .ref b)]) hx hb dX4_joined_11 rfl hl (by decide) rfl (fun ls hl => ?_)
  have lp1 : ∀ (fuel : Nat) (r j : Nat), (xs.length - j) < fuel → (j ≤ xs.length) → (H0.size ≤ r) → ∀ (H : Heap) (locs : List Loc) (ls : Array Slot) (k n : Nat), va_S (Pur H0) H0 H locs → Ai G H r 101 (sl xs 0 j ++ List.replicate (xs.length + 1 + ys.length - j) 0) → (k ≤ mc) → (n ≤ ms) → lv_has ls 4 [(0, .ref a), (1, .ref b), (2, .ref r), (3, .int (iI ↑j))] → W p l e ⟨0, mc, ms, 0⟩ s m args below meth c H locs k n Q (F0 m 12 ls []) := by
    intro fuel
    induction fuel with
    | zero => intro r j hf9; exact absurd hf9 (Nat.not_lt_zero _)
    | succ fuel ih_lp1 =>
      intro r j hf9 hj hrr H locs ls k n hS Ar hr1 hr2 hl
      have hLr : (sl xs 0 j ++ List.replicate (xs.length + 1 + ys.length - j) 0).length = xs.length + 1 + ys.length := by rw [List.length_append, sl_len (by omega), List.length_replicate]; omega
      refine lv_iload_n hx hb dX4_joined_12 rfl (lv_at hl 3 rfl) ?_
      refine lv_aload_n hx hb dX4_joined_13 rfl (lv_at hl 0 rfl) ?_
      refine z_alen cx (ha.ext (Ext.ofS hS)) dX4_joined_14 ?_
      refine z_icmp_ge cx (tgt := 30) dX4_joined_15 (by decide) (by omega) (fun c15 => ?_) (fun c15 => ?_)
      · have e1 : j = xs.length := by omega
        subst e1
        refine lv_aload_n hx hb dX4_joined_30 rfl (lv_at hl 2 rfl) ?_
        refine lv_aload_n hx hb dX4_joined_31 rfl (lv_at hl 0 rfl) ?_
        refine z_alen cx (ha.ext (Ext.ofS hS)) dX4_joined_32 ?_
        refine lv_bipush (v := iI (44)) hx hb dX4_joined_33 (by decide) ?_
        refine z_iast cx Ar hrr hS (xs.length) (by omega) dX4_joined_35 (fun H locs Ar hz9 hq9 hS => ?_)
        refine lv_iconst (v := iI (0)) hx hb dX4_joined_36 rfl ?_
        refine lv_istore_n (lv' := [(3, .int (iI 0)), (0, .ref a), (1, .ref b), (2, .ref r)]) hx hb dX4_joined_37 rfl hl (by decide) rfl (fun ls hl => ?_)
        rw [show xs.length + 1 + ys.length - xs.length = ys.length + 1 by omega, sl_all, fill_set rfl] at Ar
        exact lp2 _ r 0 (Nat.lt_succ_self _) (by omega) hrr _ _ _ _ _ hS (by rw [sl_nil (Nat.le_refl 0), List.append_nil]; exact Ar) (by omega) (by omega) (lv_sub hl [1, 2, 3, 0] rfl)
      · refine lv_aload_n hx hb dX4_joined_18 rfl (lv_at hl 2 rfl) ?_
        refine lv_iload_n hx hb dX4_joined_19 rfl (lv_at hl 3 rfl) ?_
        refine lv_aload_n hx hb dX4_joined_20 rfl (lv_at hl 0 rfl) ?_
        refine lv_iload_n hx hb dX4_joined_21 rfl (lv_at hl 3 rfl) ?_
        refine z_iald cx (ha.ext (Ext.ofS hS)) (j) (by omega) dX4_joined_22 (fun x22 hx22 => ?_)
        have bx22 := hcx _ (List.mem_of_getElem? hx22)
        refine z_iast cx Ar hrr hS (j) (by omega) dX4_joined_23 (fun H locs Ar hz9 hq9 hS => ?_)
        have e2 : xs.length + 1 + ys.length - j = (xs.length + 1 + ys.length - (j + 1)) + 1 := by omega
        rw [e2, fill_set (by rw [sl_len (by omega)]; omega), ← sl_snoc hx22 (Nat.zero_le _)] at Ar
        refine z_iinc cx (j := 3) (z := ((j + 1 : Nat) : Int)) (lv' := [(3, .int (iI ((j + 1 : Nat) : Int))), (0, .ref a), (1, .ref b), (2, .ref r)]) dX4_joined_24 hl rfl (by omega) (by decide) rfl (fun ls hl => ?_)
        refine lv_goto (tgt := 12) hx hb dX4_joined_27 (by decide) ?_
        exact ih_lp1 r (j + 1) (by omega) (by omega) (by omega) _ _ _ _ _ hS Ar (by omega) (by omega) (lv_sub hl [1, 2, 3, 0] rfl)
  exact lp1 _ r 0 (Nat.lt_succ_self _) (by omega) hgr _ _ _ _ _ hS (by rw [sl_nil (Nat.le_refl 0)]; exact Ar) (by omega) (by omega) (lv_sub hl [2, 3, 1, 0] rfl)
set_option maxHeartbeats 4000000 in
set_option maxRecDepth 100000 in
theorem m_X4_numberOf (G : zE) (l : Launch) (H0 : Heap) (a : Nat) (xs : List Int) (f : Nat) (ha : Ai G H0 a 101 xs) (hcx : chs xs) (hn : f ≤ xs.length ∧ xs.length ≤ 100000) {mc ms : Nat}  : zR G l yX4_numberOf (ws_ yX4_numberOf cX4_numberOf 5 (some FieldType.int)) 1 20 mc ms [.ref a, .int (iI ↑f)] H0 (fun r _ => r = .int (iI (numOf (xs.drop f)))) (Pur H0) := by
  refine zR.start (cc := cX4_numberOf) (by decide) (Nat.le_of_ble_eq_true rfl) ?_
  intro p e s m args below meth c Q cx hQ hmn ls hl
  have hx := cx.1
  have hb := cx.2.1
  have hS : va_S (Pur H0) H0 H0 [] := va_S.rf
  have hl : lv_has ls 5 [(0, .ref a), (1, .int (iI ↑f))] := hl
  have hL : (xs.drop f).length = xs.length - f := List.length_drop
  have bad : ¬ (1 ≤ (xs.drop f).length ∧ (xs.drop f).length ≤ 6) → numOf (xs.drop f) = -1 := fun h => by rw [numOf, if_neg (fun q => h ⟨q.1, q.2.1⟩)]
  have lp : ∀ (fuel : Nat) (j : Nat) (v : Int), (xs.length - j) < fuel → (f ≤ j ∧ j ≤ xs.length ∧ 1 ≤ xs.length - f ∧ xs.length - f ≤ 6) → (v = numV (sl xs f j)) → ((sl xs f j).all isDg = true) → ∀ (H : Heap) (locs : List Loc) (ls : Array Slot) (k n : Nat), va_S (Pur H0) H0 H locs → (k ≤ mc) → (n ≤ ms) → lv_has ls 5 [(0, .ref a), (1, .int (iI ↑f)), (2, .int (iI ((xs.length - f : Nat) : Int))), (3, .int (iI v)), (4, .int (iI ↑j))] → W p l e ⟨1, mc, ms, 20⟩ s m args below meth c H locs k n Q (F0 m 23 ls []) := by
    intro fuel
    induction fuel with
    | zero => intro j v hf9; exact absurd hf9 (Nat.not_lt_zero _)
    | succ fuel ih_lp =>
      intro j v hf9 hj hv hd H locs ls k n hS  hr1 hr2 hl
      refine lv_iload hx hb dX4_numberOf_23 (lv_at hl 4 rfl) ?_
      refine lv_aload_n hx hb dX4_numberOf_25 rfl (lv_at hl 0 rfl) ?_
      refine z_alen cx (ha.ext (Ext.ofS hS)) dX4_numberOf_26 ?_
      refine z_icmp_ge cx (tgt := 61) dX4_numberOf_27 (by decide) (by omega) (fun c27 => ?_) (fun c27 => ?_)
      · have e1 : j = xs.length := by omega
        subst e1
        rw [sl_to] at hv hd
        refine lv_iload_n hx hb dX4_numberOf_61 rfl (lv_at hl 3 rfl) ?_
        exact z_iret cx hQ rfl rfl (by rw [numOf, if_pos ⟨by omega, by omega, hd⟩, hv]) hS (by omega) dX4_numberOf_62
      · refine lv_aload_n hx hb dX4_numberOf_30 rfl (lv_at hl 0 rfl) ?_
        refine lv_iload hx hb dX4_numberOf_31 (lv_at hl 4 rfl) ?_
        refine z_iald cx (ha.ext (Ext.ofS hS)) (j) (by omega) dX4_numberOf_33 (fun x33 hx33 => ?_)
        have bx33 := hcx _ (List.mem_of_getElem? hx33)
        refine z_callS cx (j := 1) (m_X4_isDigit G l _ x33 (by omega) (mc := 0) (ms := 0)) (lw_S q1206 q1207 q57 q1208) (by decide +kernel) rfl (rest := []) rfl hl (Nat.le_of_ble_eq_true rfl) (by decide) (by omega) dX4_numberOf_34 hS (fun q h => Nat.le_trans hS.1 h) (fun v34 H locs hp34 hz9 hk9 hS => ?_)
        have hE9 := Ext.of hz9 hk9 (fun q h => h)
        have hb34 := b2i_rg (isDg x33)
        subst hp34
        refine z_if_ne cx (tgt := 42) dX4_numberOf_37 (by decide) (by omega) (fun c37 => ?_) (fun c37 => ?_)
        · refine lv_bipush (v := iI (10)) hx hb dX4_numberOf_42 (by decide) ?_
          refine lv_iload_n hx hb dX4_numberOf_44 rfl (lv_at hl 3 rfl) ?_
          refine z_imul cx (z := 10 * v) dX4_numberOf_45 (by omega) ?_
          refine lv_aload_n hx hb dX4_numberOf_46 rfl (lv_at hl 0 rfl) ?_
          refine lv_iload hx hb dX4_numberOf_47 (lv_at hl 4 rfl) ?_
          refine z_iald cx (ha.ext (Ext.ofS hS)) (j) (by omega) dX4_numberOf_49 (fun x49 hx49 => ?_)
          have bx49 := hcx _ (List.mem_of_getElem? hx49)
          refine z_iadd cx (z := 10 * v + x49) dX4_numberOf_50 (by omega) ?_
          refine lv_bipush (v := iI (48)) hx hb dX4_numberOf_51 (by decide) ?_
          refine z_isub cx (z := 10 * v + x49 - 48) dX4_numberOf_53 (by omega) ?_
          refine lv_istore_n (lv' := [(3, .int (iI (10 * v + x49 - 48))), (0, .ref a), (1, .int (iI ↑f)), (2, .int (iI ((xs.length - f : Nat) : Int))), (4, .int (iI ↑j))]) hx hb dX4_numberOf_54 rfl hl (by decide) rfl (fun ls hl => ?_)
          refine z_iinc cx (j := 4) (z := ((j + 1 : Nat) : Int)) (lv' := [(4, .int (iI ((j + 1 : Nat) : Int))), (3, .int (iI (10 * v + x49 - 48))), (0, .ref a), (1, .int (iI ↑f)), (2, .int (iI ((xs.length - f : Nat) : Int)))]) dX4_numberOf_55 hl rfl (by omega) (by decide) rfl (fun ls hl => ?_)
          refine lv_goto (tgt := 23) hx hb dX4_numberOf_58 (by decide) ?_
          have e3 : x33 = x49 := by rw [hx33] at hx49; exact Option.some.inj hx49
          subst e3
          have hdg : isDg x33 = true := by cases h : isDg x33 with | true => rfl | false => rw [h] at c37; exact absurd b2i_f c37
          exact ih_lp (j + 1) (10 * v + x33 - 48) (by omega) (by omega) (by rw [sl_snoc hx33 (by omega), numV_s, ← hv]) (by rw [all_sl hx33 (by omega), hd, hdg]; rfl) _ _ _ _ _ hS  (by omega) (by omega) (lv_sub hl [2, 3, 4, 1, 0] rfl)
        · have hdg : isDg x33 = false := b2i_1.mp c37
          refine lv_iconst (v := iI (-1)) hx hb dX4_numberOf_40 rfl ?_
          exact z_iret cx hQ rfl rfl (by rw [numOf, if_neg]; rintro ⟨-, -, q⟩; rw [← sl_to, List.all_eq_true] at q; have := q x33 (List.mem_of_getElem? (i := j - f) (by rw [sl_get (by omega), show f + (j - f) = j by omega]; exact hx33)); rw [hdg] at this; cases this) hS (by omega) dX4_numberOf_41
  refine lv_aload_n hx hb dX4_numberOf_0 rfl (lv_at hl 0 rfl) ?_
  refine z_alen cx ha dX4_numberOf_1 ?_
  refine lv_iload_n hx hb dX4_numberOf_2 rfl (lv_at hl 1 rfl) ?_
  refine z_isub cx (z := ((xs.length - f : Nat) : Int)) dX4_numberOf_3 (by omega) ?_
  refine lv_istore_n (lv' := [(2, .int (iI ((xs.length - f : Nat) : Int))), (0, .ref a), (1, .int (iI ↑f))]) hx hb dX4_numberOf_4 rfl hl (by decide) rfl (fun ls hl => ?_)
  refine lv_iload_n hx hb dX4_numberOf_5 rfl (lv_at hl 0 rfl) ?_
  refine lv_iconst (v := iI (1)) hx hb dX4_numberOf_6 rfl ?_
  refine z_icmp_lt cx (tgt := 16) dX4_numberOf_7 (by decide) (by omega) (fun c7 => ?_) (fun c7 => ?_)
  · refine lv_iconst (v := iI (-1)) hx hb dX4_numberOf_16 rfl ?_
    exact z_iret cx hQ rfl rfl (by rw [bad (by omega)]) hS (by omega) dX4_numberOf_17
  · refine lv_iload_n hx hb dX4_numberOf_10 rfl (lv_at hl 0 rfl) ?_
    refine lv_bipush (v := iI (6)) hx hb dX4_numberOf_11 (by decide) ?_
    refine z_icmp_le cx (tgt := 18) dX4_numberOf_13 (by decide) (by omega) (fun c13 => ?_) (fun c13 => ?_)
    · refine lv_iconst (v := iI (0)) hx hb dX4_numberOf_18 rfl ?_
      refine lv_istore_n (lv' := [(3, .int (iI 0)), (2, .int (iI ((xs.length - f : Nat) : Int))), (0, .ref a), (1, .int (iI ↑f))]) hx hb dX4_numberOf_19 rfl hl (by decide) rfl (fun ls hl => ?_)
      refine lv_iload_n hx hb dX4_numberOf_20 rfl (lv_at hl 3 rfl) ?_
      refine lv_istore (lv' := [(4, .int (iI ↑f)), (3, .int (iI 0)), (2, .int (iI ((xs.length - f : Nat) : Int))), (0, .ref a), (1, .int (iI ↑f))]) hx hb dX4_numberOf_21 hl (by decide) rfl (fun ls hl => ?_)
      exact lp _ f 0 (Nat.lt_succ_self _) (by omega) (by rw [sl_nil (Nat.le_refl f)]; rfl) (by rw [sl_nil (Nat.le_refl f)]; rfl) _ _ _ _ _ hS  (by omega) (by omega) (lv_sub hl [3, 4, 2, 1, 0] rfl)
    · refine lv_iconst (v := iI (-1)) hx hb dX4_numberOf_16 rfl ?_
      exact z_iret cx hQ rfl rfl (by rw [bad (by omega)]) hS (by omega) dX4_numberOf_17
