/-! ===== the model: looking for a thing ===== -/
set_option maxHeartbeats 4000000 in
set_option maxRecDepth 100000 in
theorem m_X4_hasStar (G : zE) (l : Launch) (H0 : Heap) (P : Nat → Prop) (a : Nat) (vs : List (List Int)) (ha : Rq G P H0 a (vs.map some)) (hn : vs.length ≤ 100000) (hc9 : ∀ v ∈ vs, chs v ∧ v.length ≤ 100000) {mc ms : Nat}  : zR G l yX4_hasStar (ws_ yX4_hasStar cX4_hasStar 2 (some FieldType.boolean)) 0 0 mc ms [.ref a] H0 (fun r _ => r = .int (iI (b2i (star vs)))) (Pur H0) := by
  refine zR.start (cc := cX4_hasStar) (by decide) (Nat.le_of_ble_eq_true rfl) ?_
  intro p e s m args below meth c Q cx hQ hmn ls hl
  have hx := cx.1
  have hb := cx.2.1
  have hS : va_S (Pur H0) H0 H0 [] := va_S.rf
  have hl : lv_has ls 2 [(0, .ref a)] := hl
  obtain ⟨rs, -, hAa, hOa⟩ := ha.ors
  have hla : rs.length = vs.length := by rw [hOa.1, List.length_map]
  refine lv_iconst (v := iI (0)) hx hb dX4_hasStar_0 rfl ?_
  refine lv_istore_n (lv' := [(1, .int (iI 0)), (0, .ref a)]) hx hb dX4_hasStar_1 rfl hl (by decide) rfl (fun ls hl => ?_)
  have lp : ∀ (fuel : Nat) (j : Nat), (vs.length - j) < fuel → (j ≤ vs.length) → (star vs = star (vs.drop j)) → ∀ (H : Heap) (locs : List Loc) (ls : Array Slot) (k n : Nat), va_S (Pur H0) H0 H locs → (k ≤ mc) → (n ≤ ms) → lv_has ls 2 [(0, .ref a), (1, .int (iI ↑j))] → W p l e ⟨0, mc, ms, 0⟩ s m args below meth c H locs k n Q (F0 m 2 ls []) := by
    intro fuel
    induction fuel with
    | zero => intro j hf9; exact absurd hf9 (Nat.not_lt_zero _)
    | succ fuel ih_lp =>
      intro j hf9 hj hf H locs ls k n hS  hr1 hr2 hl
      refine lv_iload_n hx hb dX4_hasStar_2 rfl (lv_at hl 1 rfl) ?_
      refine lv_aload_n hx hb dX4_hasStar_3 rfl (lv_at hl 0 rfl) ?_
      refine z_alenQ cx (t0 := 5) (hAa.ext (Ext.ofS hS)) rfl dX4_hasStar_4 ?_
      refine z_icmp_ge cx (tgt := 34) dX4_hasStar_5 (by decide) (by omega) (fun c5 => ?_) (fun c5 => ?_)
      · rw [List.drop_eq_nil_of_le (by omega)] at hf
        refine lv_iconst (v := iI (0)) hx hb dX4_hasStar_34 rfl ?_
        exact z_iret cx hQ rfl rfl (by rw [hf]; rfl) hS (by omega) dX4_hasStar_35
      · refine lv_aload_n hx hb dX4_hasStar_8 rfl (lv_at hl 0 rfl) ?_
        refine lv_iload_n hx hb dX4_hasStar_9 rfl (lv_at hl 1 rfl) ?_
        refine z_aald cx (t0 := 5) (hAa.ext (Ext.ofS hS)) rfl rfl (j) (by omega) dX4_hasStar_10 (fun x10 hx10 => ?_)
        obtain ⟨v, w, hv, rfl, -, hw⟩ := hOa.gets hx10
        have hcv := hc9 v (List.mem_of_getElem? hv)
        have hst : star (vs.drop j) = (decide (v = [42]) || star (vs.drop (j + 1))) := by rw [drop_s hv]; rfl
        refine z_alen cx (hw.ext (Ext.ofS hS)) dX4_hasStar_11 ?_
        refine lv_iconst (v := iI (1)) hx hb dX4_hasStar_12 rfl ?_
        refine z_icmp_ne cx (tgt := 28) dX4_hasStar_13 (by decide) (by omega) (fun c13 => ?_) (fun c13 => ?_)
        · have hno : decide (v = [42]) = false := decide_eq_false (fun h => c13 (by rw [h]; rfl))
          refine z_iinc cx (j := 1) (z := ((j + 1 : Nat) : Int)) (lv' := [(1, .int (iI ((j + 1 : Nat) : Int))), (0, .ref a)]) dX4_hasStar_28 hl rfl (by omega) (by decide) rfl (fun ls hl => ?_)
          refine lv_goto (tgt := 2) hx hb dX4_hasStar_31 (by decide) ?_
          exact ih_lp (j + 1) (by omega) (by omega) (by rw [hf, hst, hno]; rfl) _ _ _ _ _ hS  (by omega) (by omega) (lv_sub hl [1, 0] rfl)
        · refine lv_aload_n hx hb dX4_hasStar_16 rfl (lv_at hl 0 rfl) ?_
          refine lv_iload_n hx hb dX4_hasStar_17 rfl (lv_at hl 1 rfl) ?_
          refine z_aald cx (t0 := 5) (hAa.ext (Ext.ofS hS)) rfl rfl (j) (by omega) dX4_hasStar_18 (fun x18 hx18 => ?_)
          obtain rfl : x18 = some w := by rw [hx10] at hx18; exact (Option.some.inj hx18).symm
          refine lv_iconst (v := iI (0)) hx hb dX4_hasStar_19 rfl ?_
          refine z_iald cx (hw.ext (Ext.ofS hS)) (0) (by omega) dX4_hasStar_20 (fun x20 hx20 => ?_)
          have bx20 := hcv.1 _ (List.mem_of_getElem? hx20)
          refine lv_bipush (v := iI (42)) hx hb dX4_hasStar_21 (by decide) ?_
          refine z_icmp_ne cx (tgt := 28) dX4_hasStar_23 (by decide) (by omega) (fun c23 => ?_) (fun c23 => ?_)
          · have hno : decide (v = [42]) = false := decide_eq_false (fun h => c23 (by rw [h] at hx20; exact (Option.some.inj hx20).symm))
            refine z_iinc cx (j := 1) (z := ((j + 1 : Nat) : Int)) (lv' := [(1, .int (iI ((j + 1 : Nat) : Int))), (0, .ref a)]) dX4_hasStar_28 hl rfl (by omega) (by decide) rfl (fun ls hl => ?_)
            refine lv_goto (tgt := 2) hx hb dX4_hasStar_31 (by decide) ?_
            exact ih_lp (j + 1) (by omega) (by omega) (by rw [hf, hst, hno]; rfl) _ _ _ _ _ hS  (by omega) (by omega) (lv_sub hl [1, 0] rfl)
          · have hyes : v = [42] := by
              match v, c13, hx20 with
              | [], h1, h2 => cases h2
              | [d], h1, h2 => rw [← c23]; simpa using h2
              | d :: d2 :: v, h1, h2 => simp at h1; omega
            refine lv_iconst (v := iI (1)) hx hb dX4_hasStar_26 rfl ?_
            exact z_iret cx hQ rfl rfl (by rw [hf, hst, decide_eq_true hyes]; rfl) hS (by omega) dX4_hasStar_27
  exact lp _ 0 (Nat.lt_succ_self _) (by omega) rfl _ _ _ _ _ hS  (by omega) (by omega) (lv_sub hl [1, 0] rfl)
set_option maxHeartbeats 4000000 in
set_option maxRecDepth 100000 in
theorem m_X4_longestAgo (G : zE) (l : Launch) (H0 : Heap) (P : Nat → Prop) (x th : Nat) (as : List Nat) (r : Nat) (ts : List Th) (u0 u1 u2 u3 u4 u5 u6 : Value) (hx9 : Ob G H0 x 5 [u0, u1, u2, u3, u4, u5, u6, .ref th, .int (iI (as.length : Int))]) (hth : Aq G H0 th 104 (as.map some ++ List.replicate r none)) (hT : MTs G P H0 as ts) (hn : 1 ≤ as.length ∧ as.length + r ≤ 1000) {mc ms : Nat}  : zR G l yX4_longestAgo (ws_ yX4_longestAgo cX4_longestAgo 3 (some FieldType.int)) 0 0 mc ms [.ref x] H0 (fun r _ => r = .int (iI ((lst1 (ts.map tUsed) ((ts.map tUsed).drop 1) 1 0 : Nat) : Int))) (Pur H0) := by
  refine zR.start (cc := cX4_longestAgo) (by decide) (Nat.le_of_ble_eq_true rfl) ?_
  intro p e s m args below meth c Q cx hQ hmn ls hl
  have hx := cx.1
  have hb := cx.2.1
  have hS : va_S (Pur H0) H0 H0 [] := va_S.rf
  have hl : lv_has ls 3 [(0, .ref x)] := hl
  have hL : (as.map some ++ List.replicate r none).length = as.length + r := by rw [List.length_append, List.length_map, List.length_replicate]
  have hlt := hT.1
  refine lv_iconst (v := iI (0)) hx hb dX4_longestAgo_0 rfl ?_
  refine lv_istore_n (lv' := [(1, .int (iI 0)), (0, .ref x)]) hx hb dX4_longestAgo_1 rfl hl (by decide) rfl (fun ls hl => ?_)
  refine lv_iconst (v := iI (1)) hx hb dX4_longestAgo_2 rfl ?_
  refine lv_istore_n (lv' := [(2, .int (iI 1)), (1, .int (iI 0)), (0, .ref x)]) hx hb dX4_longestAgo_3 rfl hl (by decide) rfl (fun ls hl => ?_)
  have lp : ∀ (fuel : Nat) (j f : Nat), (as.length - j) < fuel → (j ≤ as.length ∧ f < as.length) → (lst1 (ts.map tUsed) ((ts.map tUsed).drop 1) 1 0 = lst1 (ts.map tUsed) ((ts.map tUsed).drop j) j f) → ∀ (H : Heap) (locs : List Loc) (ls : Array Slot) (k n : Nat), va_S (Pur H0) H0 H locs → (k ≤ mc) → (n ≤ ms) → lv_has ls 3 [(0, .ref x), (1, .int (iI ↑f)), (2, .int (iI ↑j))] → W p l e ⟨0, mc, ms, 0⟩ s m args below meth c H locs k n Q (F0 m 4 ls []) := by
    intro fuel
    induction fuel with
    | zero => intro j f hf9; exact absurd hf9 (Nat.not_lt_zero _)
    | succ fuel ih_lp =>
      intro j f hf9 hj hf H locs ls k n hS  hr1 hr2 hl
      refine lv_iload_n hx hb dX4_longestAgo_4 rfl (lv_at hl 2 rfl) ?_
      refine lv_aload_n hx hb dX4_longestAgo_5 rfl (lv_at hl 0 rfl) ?_
      refine z_get cx (k0 := 8) (hx9.ext (Ext.ofS hS)) rfl in_X4 (by decide) q1163 rfl rfl dX4_longestAgo_6 ?_
      refine z_icmp_ge cx (tgt := 42) dX4_longestAgo_9 (by decide) (by omega) (fun c9 => ?_) (fun c9 => ?_)
      · rw [List.drop_eq_nil_of_le (show (ts.map tUsed).length ≤ j by rw [List.length_map]; omega)] at hf
        refine lv_iload_n hx hb dX4_longestAgo_42 rfl (lv_at hl 1 rfl) ?_
        exact z_iret cx hQ rfl rfl (by rw [hf]; rfl) hS (by omega) dX4_longestAgo_43
      · refine lv_aload_n hx hb dX4_longestAgo_12 rfl (lv_at hl 0 rfl) ?_
        refine z_get cx (k0 := 7) (hx9.ext (Ext.ofS hS)) rfl in_X4 (by decide) q1162 rfl rfl dX4_longestAgo_13 ?_
        refine lv_iload_n hx hb dX4_longestAgo_16 rfl (lv_at hl 2 rfl) ?_
        refine z_aald cx (t0 := 4) (hth.ext (Ext.ofS hS)) rfl rfl (j) (by omega) dX4_longestAgo_17 (fun x17 hx17 => ?_)
        obtain ⟨a, ha, rfl⟩ := gas hx17 (by omega)
        obtain ⟨t, ht, hok, re, rv, rw9, hOg, -⟩ := hT.get ha
        refine z_get cx (k0 := 11) (hOg.ext (Ext.ofS hS)) rfl in_X8 (by decide) q1308 rfl rfl dX4_longestAgo_18 ?_
        refine lv_aload_n hx hb dX4_longestAgo_21 rfl (lv_at hl 0 rfl) ?_
        refine z_get cx (k0 := 7) (hx9.ext (Ext.ofS hS)) rfl in_X4 (by decide) q1162 rfl rfl dX4_longestAgo_22 ?_
        refine lv_iload_n hx hb dX4_longestAgo_25 rfl (lv_at hl 1 rfl) ?_
        refine z_aald cx (t0 := 4) (hth.ext (Ext.ofS hS)) rfl rfl (f) (by omega) dX4_longestAgo_26 (fun x26 hx26 => ?_)
        obtain ⟨b, hb8, rfl⟩ := gas hx26 (by omega)
        obtain ⟨t2, ht2, hok2, re2, rv2, rw2, hOg2, -⟩ := hT.get hb8
        have e1 : (ts.map tUsed)[j]? = some (tUsed t) := by rw [List.getElem?_map, ht]; rfl
        have e2 : (ts.map tUsed).getD f 0 = tUsed t2 := by rw [List.getD_eq_getElem?_getD, List.getElem?_map, ht2]; rfl
        rw [drop_s e1, lst1, e2] at hf
        have hcm := lN_cmp (a := tUsed t) (b := tUsed t2) (by have := hok.2.2.2.2.2.2.2.2.2.2.2; omega) (by have := hok2.2.2.2.2.2.2.2.2.2.2.2; omega)
        refine z_get cx (k0 := 11) (hOg2.ext (Ext.ofS hS)) rfl in_X8 (by decide) q1308 rfl rfl dX4_longestAgo_27 ?_
        refine W.lcmp hx hb dX4_longestAgo_30 ?_
        refine lv_if_ge (tgt := 36) hx hb dX4_longestAgo_31 (by decide) (fun c31 => ?_) (fun c31 => ?_)
        · have h9 := hcm.mp c31
          rw [if_neg (by omega)] at hf
          refine z_iinc cx (j := 2) (z := ((j + 1 : Nat) : Int)) (lv' := [(2, .int (iI ((j + 1 : Nat) : Int))), (0, .ref x), (1, .int (iI ↑f))]) dX4_longestAgo_36 hl rfl (by omega) (by decide) rfl (fun ls hl => ?_)
          refine lv_goto (tgt := 4) hx hb dX4_longestAgo_39 (by decide) ?_
          exact ih_lp (j + 1) f (by omega) (by omega) (by omega) _ _ _ _ _ hS  (by omega) (by omega) (lv_sub hl [1, 2, 0] rfl)
        · have h9 : ¬ tUsed t2 ≤ tUsed t := fun h => c31 (hcm.mpr h)
          rw [if_pos (by omega)] at hf
          refine lv_iload_n hx hb dX4_longestAgo_34 rfl (lv_at hl 2 rfl) ?_
          refine lv_istore_n (lv' := [(1, .int (iI ↑j)), (0, .ref x), (2, .int (iI ↑j))]) hx hb dX4_longestAgo_35 rfl hl (by decide) rfl (fun ls hl => ?_)
          refine z_iinc cx (j := 2) (z := ((j + 1 : Nat) : Int)) (lv' := [(2, .int (iI ((j + 1 : Nat) : Int))), (1, .int (iI ↑j)), (0, .ref x)]) dX4_longestAgo_36 hl rfl (by omega) (by decide) rfl (fun ls hl => ?_)
          refine lv_goto (tgt := 4) hx hb dX4_longestAgo_39 (by decide) ?_
          exact ih_lp (j + 1) j (by omega) (by omega) (by omega) _ _ _ _ _ hS  (by omega) (by omega) (lv_sub hl [2, 1, 0] rfl)
  exact lp _ 1 0 (Nat.lt_succ_self _) (by omega) rfl _ _ _ _ _ hS  (by omega) (by omega) (lv_sub hl [2, 1, 0] rfl)
set_option maxHeartbeats 4000000 in
set_option maxRecDepth 100000 in
theorem m_X4_theOne (G : zE) (l : Launch) (H0 : Heap) (P : Nat → Prop) (x th rt : Nat) (as : List Nat) (r : Nat) (cs : List Int) (lz : Lns) (ts : List Th) (z : Int) (u0 u1 u2 u3 u4 u5 : Value) (hx9 : Ob G H0 x 5 [u0, u1, u2, u3, u4, u5, .ref rt, .ref th, .int (iI (as.length : Int))]) (hth : Aq G H0 th 104 (as.map some ++ List.replicate r none)) (htx : Tx G P H0 rt cs lz) (hT : MTs G P H0 as ts) (hz : rg z) (hn : as.length + r ≤ 1000) {mc ms : Nat} (hmc : theC (tln cs lz) ts ≤ mc) (hms : theS (tln cs lz) ts ≤ ms) : zR G l yX4_theOne (ws_ yX4_theOne cX4_theOne 7 (some FieldType.int)) 3 72 mc ms [.ref x, .int (iI z)] H0 (fun r _ => r = .int (iI (lix (isOne (tln cs lz) z) ts 0 (-1)))) (Pur H0) := by
  refine zR.start (cc := cX4_theOne) (by decide) (Nat.le_of_ble_eq_true rfl) ?_
  intro p e s m args below meth c Q cx hQ hmn ls hl
  have hx := cx.1
  have hb := cx.2.1
  have hS : va_S (Pur H0) H0 H0 [] := va_S.rf
  have hl : lv_has ls 7 [(0, .ref x), (1, .int (iI z))] := hl
  have hL : (as.map some ++ List.replicate r none).length = as.length + r := by rw [List.length_append, List.length_map, List.length_replicate]
  have hlt := hT.1
  have hvo : ∀ nm, ochs (vof (tln cs lz) nm) ∧ olen (vof (tln cs lz) nm) 30100 := by
    obtain ⟨-, _, _, _, _, _, _, _, -, -, -, -, -, -, hl9, hch, hcl, -⟩ := htx
    exact fun nm => vof_ok hch hcl hl9.2.2.2
  refine lv_iconst (v := iI (-1)) hx hb dX4_theOne_0 rfl ?_
  refine lv_istore_n (lv' := [(2, .int (iI (-1))), (0, .ref x), (1, .int (iI z))]) hx hb dX4_theOne_1 rfl hl (by decide) rfl (fun ls hl => ?_)
  refine lv_iconst (v := iI (0)) hx hb dX4_theOne_2 rfl ?_
  refine lv_istore_n (lv' := [(3, .int (iI 0)), (2, .int (iI (-1))), (0, .ref x), (1, .int (iI z))]) hx hb dX4_theOne_3 rfl hl (by decide) rfl (fun ls hl => ?_)
  have lp : ∀ (fuel : Nat) (j : Nat) (f : Int), (as.length - j) < fuel → (j ≤ as.length) → (lix (isOne (tln cs lz) z) ts 0 (-1) = lix (isOne (tln cs lz) z) (ts.drop j) j f) → ∀ (H : Heap) (locs : List Loc) (ls : Array Slot) (k n : Nat), va_S (Pur H0) H0 H locs → (k + theC (tln cs lz) (ts.drop j) ≤ mc) → (n + theS (tln cs lz) (ts.drop j) ≤ ms) → lv_has ls 7 [(0, .ref x), (1, .int (iI z)), (2, .int (iI f)), (3, .int (iI ↑j))] → W p l e ⟨3, mc, ms, 72⟩ s m args below meth c H locs k n Q (F0 m 4 ls []) := by
    intro fuel
    induction fuel with
    | zero => intro j f hf9; exact absurd hf9 (Nat.not_lt_zero _)
    | succ fuel ih_lp =>
      intro j f hf9 hj hf H locs ls k n hS  hr1 hr2 hl
      refine lv_iload_n hx hb dX4_theOne_4 rfl (lv_at hl 3 rfl) ?_
      refine lv_aload_n hx hb dX4_theOne_5 rfl (lv_at hl 0 rfl) ?_
      refine z_get cx (k0 := 8) (hx9.ext (Ext.ofS hS)) rfl in_X4 (by decide) q1163 rfl rfl dX4_theOne_6 ?_
      refine z_icmp_ge cx (tgt := 102) dX4_theOne_9 (by decide) (by omega) (fun c9 => ?_) (fun c9 => ?_)
      · rw [List.drop_eq_nil_of_le (by omega)] at hf
        refine lv_iload_n hx hb dX4_theOne_102 rfl (lv_at hl 2 rfl) ?_
        exact z_iret cx hQ rfl rfl (by rw [hf]; rfl) hS (by omega) dX4_theOne_103
      · refine lv_aload_n hx hb dX4_theOne_12 rfl (lv_at hl 0 rfl) ?_
        refine z_get cx (k0 := 7) (hx9.ext (Ext.ofS hS)) rfl in_X4 (by decide) q1162 rfl rfl dX4_theOne_13 ?_
        refine lv_iload_n hx hb dX4_theOne_16 rfl (lv_at hl 3 rfl) ?_
        refine z_aald cx (t0 := 4) (hth.ext (Ext.ofS hS)) rfl rfl (j) (by omega) dX4_theOne_17 (fun x17 hx17 => ?_)
        obtain ⟨a, ha, rfl⟩ := gas hx17 (by omega)
        obtain ⟨t, ht, hok, re, rv, rw9, hOg, -, hrv, hrw⟩ := hT.get ha
        obtain ⟨rs1, -, hA1, hO1⟩ := hrv.ors
        obtain ⟨rs2, -, hA2, hO2⟩ := hrw.ors
        obtain ⟨k1, k2, k3, k4, k5, k6, k7, k8, k9, k10, k11, k12⟩ := hok
        have hl1 : rs1.length = (tVary t).length := by rw [hO1.1, List.length_map]
        have hl2 : rs2.length = (tVary t).length := by rw [hO2.1, k5]
        rw [drop_s ht] at hf hr1 hr2
        rw [lix] at hf
        have hr1 : k + (foC (tln cs lz) (tVary t) (tVals t) + theC (tln cs lz) (ts.drop (j + 1))) ≤ mc := hr1
        have hr2 : n + (foS (tln cs lz) (tVary t) (tVals t) + theS (tln cs lz) (ts.drop (j + 1))) ≤ ms := hr2
        have l89 : ∀ (fuel : Nat) (b : Bool), 0 < fuel → (b = isOne (tln cs lz) z t) → ∀ (H : Heap) (locs : List Loc) (ls : Array Slot) (k n : Nat), va_S (Pur H0) H0 H locs → (k + theC (tln cs lz) (ts.drop (j + 1)) ≤ mc) → (n + theS (tln cs lz) (ts.drop (j + 1)) ≤ ms) → lv_has ls 7 [(0, .ref x), (1, .int (iI z)), (2, .int (iI f)), (3, .int (iI ↑j)), (5, .int (iI (b2i b)))] → W p l e ⟨3, mc, ms, 72⟩ s m args below meth c H locs k n Q (F0 m 89 ls []) := by
          intro fuel
          induction fuel with
          | zero => intro b hf9; exact absurd hf9 (Nat.not_lt_zero _)
          | succ fuel ih_l89 =>
            intro b hf9 hb9 H locs ls k n hS  hr1 hr2 hl
            have hbr := b2i_rg b
            refine lv_iload hx hb dX4_theOne_89 (lv_at hl 4 rfl) ?_
            refine z_if_eq cx (tgt := 96) dX4_theOne_91 (by decide) (by omega) (fun c91 => ?_) (fun c91 => ?_)
            · have h9 := b2i_1.mp c91
              rw [← hb9, h9, if_neg (by decide)] at hf
              refine z_iinc cx (j := 3) (z := ((j + 1 : Nat) : Int)) (lv' := [(3, .int (iI ((j + 1 : Nat) : Int))), (0, .ref x), (1, .int (iI z)), (2, .int (iI f)), (5, .int (iI (b2i b)))]) dX4_theOne_96 hl rfl (by omega) (by decide) rfl (fun ls hl => ?_)
              refine lv_goto (tgt := 4) hx hb dX4_theOne_99 (by decide) ?_
              exact ih_lp (j + 1) f (by omega) (by omega) (by omega) _ _ _ _ _ hS  (by omega) (by omega) (lv_sub hl [1, 2, 3, 0] rfl)
            · have h9 : b = true := by cases b with | true => rfl | false => exact absurd rfl c91
              rw [← hb9, h9, if_pos rfl] at hf
              refine lv_iload_n hx hb dX4_theOne_94 rfl (lv_at hl 3 rfl) ?_
              refine lv_istore_n (lv' := [(2, .int (iI ↑j)), (0, .ref x), (1, .int (iI z)), (3, .int (iI ↑j)), (5, .int (iI (b2i b)))]) hx hb dX4_theOne_95 rfl hl (by decide) rfl (fun ls hl => ?_)
              refine z_iinc cx (j := 3) (z := ((j + 1 : Nat) : Int)) (lv' := [(3, .int (iI ((j + 1 : Nat) : Int))), (2, .int (iI ↑j)), (0, .ref x), (1, .int (iI z)), (5, .int (iI (b2i b)))]) dX4_theOne_96 hl rfl (by omega) (by decide) rfl (fun ls hl => ?_)
              refine lv_goto (tgt := 4) hx hb dX4_theOne_99 (by decide) ?_
              exact ih_lp (j + 1) (↑j) (by omega) (by omega) (by omega) _ _ _ _ _ hS  (by omega) (by omega) (lv_sub hl [2, 3, 1, 0] rfl)
        have l39 : ∀ (fuel : Nat) (i : Nat) (b : Bool), ((tVary t).length - i) < fuel → (i ≤ (tVary t).length) → (isOne (tln cs lz) z t = (b && forR (tln cs lz) ((tVary t).drop i) ((tVals t).drop i))) → ∀ (H : Heap) (locs : List Loc) (ls : Array Slot) (k n : Nat), va_S (Pur H0) H0 H locs → (k + (foC (tln cs lz) ((tVary t).drop i) ((tVals t).drop i) + theC (tln cs lz) (ts.drop (j + 1))) ≤ mc) → (n + (foS (tln cs lz) ((tVary t).drop i) ((tVals t).drop i) + theS (tln cs lz) (ts.drop (j + 1))) ≤ ms) → lv_has ls 7 [(0, .ref x), (1, .int (iI z)), (2, .int (iI f)), (3, .int (iI ↑j)), (4, .ref a), (5, .int (iI (b2i b))), (6, .int (iI ↑i))] → W p l e ⟨3, mc, ms, 72⟩ s m args below meth c H locs k n Q (F0 m 39 ls []) := by
          intro fuel
          induction fuel with
          | zero => intro i b hf9; exact absurd hf9 (Nat.not_lt_zero _)
          | succ fuel ih_l39 =>
            intro i b hf9 hi hb9 H locs ls k n hS  hr1 hr2 hl
            have hbr := b2i_rg b
            refine lv_iload hx hb dX4_theOne_39 (lv_at hl 6 rfl) ?_
            refine lv_aload hx hb dX4_theOne_41 (lv_at hl 4 rfl) ?_
            refine z_get cx (k0 := 9) (hOg.ext (Ext.ofS hS)) rfl in_X8 (by decide) q1306 rfl rfl dX4_theOne_43 ?_
            refine z_alenQ cx (t0 := 5) (hA1.ext (Ext.ofS hS)) rfl dX4_theOne_46 ?_
            refine z_icmp_ge cx (tgt := 89) dX4_theOne_47 (by decide) (by omega) (fun c47 => ?_) (fun c47 => ?_)
            · rw [List.drop_eq_nil_of_le (show (tVary t).length ≤ i by omega)] at hb9
              exact l89 _ b (Nat.lt_succ_self _) (by rw [hb9]; cases b <;> rfl) _ _ _ _ _ hS  (by omega) (by omega) (lv_sub hl [0, 1, 2, 3, 5] rfl)
            · refine lv_iload hx hb dX4_theOne_50 (lv_at hl 5 rfl) ?_
              refine z_if_eq cx (tgt := 89) dX4_theOne_52 (by decide) (by omega) (fun c52 => ?_) (fun c52 => ?_)
              · have h9 := b2i_1.mp c52
                subst h9
                exact l89 _ false (Nat.lt_succ_self _) (by rw [hb9]; rfl) _ _ _ _ _ hS  (by omega) (by omega) (lv_sub hl [0, 1, 2, 3, 5] rfl)
              · have h9 : b = true := by cases b with | true => rfl | false => exact absurd rfl c52
                subst h9
                refine lv_aload hx hb dX4_theOne_55 (lv_at hl 4 rfl) ?_
                refine z_get cx (k0 := 10) (hOg.ext (Ext.ofS hS)) rfl in_X8 (by decide) q1307 rfl rfl dX4_theOne_57 ?_
                refine lv_iload hx hb dX4_theOne_60 (lv_at hl 6 rfl) ?_
                refine z_aald cx (t0 := 5) (hA2.ext (Ext.ofS hS)) rfl rfl (i) (by omega) dX4_theOne_62 (fun x62 hx62 => ?_)
                obtain ⟨w, hw, hOw⟩ := hO2.get hx62
                refine lv_aload_n hx hb dX4_theOne_63 rfl (lv_at hl 0 rfl) ?_
                refine z_get cx (k0 := 6) (hx9.ext (Ext.ofS hS)) rfl in_X4 (by decide) q1161 rfl rfl dX4_theOne_64 ?_
                refine lv_aload hx hb dX4_theOne_67 (lv_at hl 4 rfl) ?_
                refine z_get cx (k0 := 9) (hOg.ext (Ext.ofS hS)) rfl in_X8 (by decide) q1306 rfl rfl dX4_theOne_69 ?_
                refine lv_iload hx hb dX4_theOne_72 (lv_at hl 6 rfl) ?_
                refine z_aald cx (t0 := 5) (hA1.ext (Ext.ofS hS)) rfl rfl (i) (by omega) dX4_theOne_74 (fun x74 hx74 => ?_)
                obtain ⟨v, av, hv, rfl, -, hAv⟩ := hO1.gets hx74
                have hcv := k3 v (List.mem_of_getElem? hv)
                have hcw := ochs_of k6 hw
                rw [drop_s hv, drop_s hw] at hb9 hr1 hr2
                rw [foC] at hr1
                rw [foS] at hr2
                rw [forR] at hb9
                refine z_callS cx (j := 2) (m_X4_valueOf G l _ P rt av cs lz v (htx.ext (Ext.ofS hS)) (hAv.ext (Ext.ofS hS)) ⟨hcv.1, by omega⟩ (mc := vC v none (tln cs lz)) (ms := vS v none (tln cs lz)) (Nat.le_refl _) (Nat.le_refl _)) (lw_S q1220 q1221 q57 q1222) (by decide +kernel) rfl (rest := [va_rf x62]) rfl hl (by cases x62 <;> exact (Nat.le_of_ble_eq_true rfl)) (by decide) (by omega) dX4_theOne_75 hS (fun q h => Nat.le_trans hS.1 h) (fun v75 H locs hp75 hz9 hk9 hS => ?_)
                have hE9 := Ext.of hz9 hk9 (fun q h => h)
                obtain ⟨r9, rfl, hR9⟩ := hp75
                refine z_callS cx (j := 2) (m_X4_alike G l _ _ _ x62 r9 w (vof (tln cs lz) v) (hOw.kp (Kp.ext (Ext.ofS hS))) hR9 hcw ⟨(hvo v).1, fun y hy => Nat.le_trans ((hvo v).2 y hy) (by omega)⟩ (mc := alC w (vof (tln cs lz) v)) (ms := alS w (vof (tln cs lz) v)) (Nat.le_refl _) (Nat.le_refl _)) (lw_S q1236 q1237 q57 q1238) (by decide +kernel) rfl (rest := []) rfl hl (Nat.le_of_ble_eq_true rfl) (by decide) (by omega) dX4_theOne_78 hS (fun q h => Nat.le_trans hS.1 h) (fun v78 H locs hp78 hz9 hk9 hS => ?_)
                have hE9 := Ext.of hz9 hk9 (fun q h => h)
                have hb78 := b2i_rg (alk w (vof (tln cs lz) v))
                subst hp78
                refine lv_istore (lv' := [(5, .int (iI (b2i (alk w (vof (tln cs lz) v))))), (0, .ref x), (1, .int (iI z)), (2, .int (iI f)), (3, .int (iI ↑j)), (4, .ref a), (6, .int (iI ↑i))]) hx hb dX4_theOne_81 hl (by decide) rfl (fun ls hl => ?_)
                refine z_iinc cx (j := 6) (z := ((i + 1 : Nat) : Int)) (lv' := [(6, .int (iI ((i + 1 : Nat) : Int))), (5, .int (iI (b2i (alk w (vof (tln cs lz) v))))), (0, .ref x), (1, .int (iI z)), (2, .int (iI f)), (3, .int (iI ↑j)), (4, .ref a)]) dX4_theOne_83 hl rfl (by omega) (by decide) rfl (fun ls hl => ?_)
                refine lv_goto (tgt := 39) hx hb dX4_theOne_86 (by decide) ?_
                exact ih_l39 (i + 1) (alk w (vof (tln cs lz) v)) (by omega) (by omega) (by rw [hb9, Bool.true_and]) _ _ _ _ _ hS  (by omega) (by omega) (lv_sub hl [2, 3, 4, 5, 6, 1, 0] rfl)
        refine lv_astore (lv' := [(4, .ref a), (0, .ref x), (1, .int (iI z)), (2, .int (iI f)), (3, .int (iI ↑j))]) hx hb dX4_theOne_18 hl (by decide) rfl (fun ls hl => ?_)
        refine lv_aload hx hb dX4_theOne_20 (lv_at hl 0 rfl) ?_
        refine z_get cx (k0 := 0) (hOg.ext (Ext.ofS hS)) rfl in_X8 (by decide) q1295 rfl rfl dX4_theOne_22 ?_
        refine lv_iload_n hx hb dX4_theOne_25 rfl (lv_at hl 2 rfl) ?_
        refine z_icmp_ne cx (tgt := 33) dX4_theOne_26 (by decide) (by omega) (fun c26 => ?_) (fun c26 => ?_)
        · have e9 : decide (tPath t = z) = false := decide_eq_false c26
          refine lv_iconst (v := iI (0)) hx hb dX4_theOne_33 rfl ?_
          refine lv_istore (lv' := [(5, .int (iI 0)), (4, .ref a), (0, .ref x), (1, .int (iI z)), (2, .int (iI f)), (3, .int (iI ↑j))]) hx hb dX4_theOne_34 hl (by decide) rfl (fun ls hl => ?_)
          refine lv_iconst (v := iI (0)) hx hb dX4_theOne_36 rfl ?_
          refine lv_istore (lv' := [(6, .int (iI 0)), (5, .int (iI 0)), (4, .ref a), (0, .ref x), (1, .int (iI z)), (2, .int (iI f)), (3, .int (iI ↑j))]) hx hb dX4_theOne_37 hl (by decide) rfl (fun ls hl => ?_)
          exact l39 _ 0 false (Nat.lt_succ_self _) (by omega) (by rw [isOne, e9]; rfl) _ _ _ _ _ hS  (by rw [List.drop_zero, List.drop_zero]; exact hr1) (by rw [List.drop_zero, List.drop_zero]; exact hr2) (lv_sub hl [3, 4, 5, 6, 2, 1, 0] rfl)
        · have e9 : decide (tPath t = z) = true := decide_eq_true c26
          refine lv_iconst (v := iI (1)) hx hb dX4_theOne_29 rfl ?_
          refine lv_goto (tgt := 34) hx hb dX4_theOne_30 (by decide) ?_
          refine lv_istore (lv' := [(5, .int (iI 1)), (4, .ref a), (0, .ref x), (1, .int (iI z)), (2, .int (iI f)), (3, .int (iI ↑j))]) hx hb dX4_theOne_34 hl (by decide) rfl (fun ls hl => ?_)
          refine lv_iconst (v := iI (0)) hx hb dX4_theOne_36 rfl ?_
          refine lv_istore (lv' := [(6, .int (iI 0)), (5, .int (iI 1)), (4, .ref a), (0, .ref x), (1, .int (iI z)), (2, .int (iI f)), (3, .int (iI ↑j))]) hx hb dX4_theOne_37 hl (by decide) rfl (fun ls hl => ?_)
          exact l39 _ 0 true (Nat.lt_succ_self _) (by omega) (by rw [isOne, e9]; rfl) _ _ _ _ _ hS  (by rw [List.drop_zero, List.drop_zero]; exact hr1) (by rw [List.drop_zero, List.drop_zero]; exact hr2) (lv_sub hl [3, 4, 5, 6, 2, 1, 0] rfl)
  exact lp _ 0 (-1) (Nat.lt_succ_self _) (by omega) rfl _ _ _ _ _ hS  (by rw [List.drop_zero]; omega) (by rw [List.drop_zero]; omega) (lv_sub hl [2, 3, 1, 0] rfl)
