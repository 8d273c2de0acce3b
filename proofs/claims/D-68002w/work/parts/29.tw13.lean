/-! ===== the model: the place of a like thing; answering ===== -/
set_option maxHeartbeats 4000000 in
set_option maxRecDepth 100000 in
theorem m_X4_placeOf (G : zE) (l : Launch) (H0 : Heap) (P : Nat → Prop) (x th g : Nat) (as : List Nat) (r : Nat) (ts : List Th) (gt : Th) (u0 u1 u2 u3 u4 u5 u6 : Value) (hx9 : Ob G H0 x 5 [u0, u1, u2, u3, u4, u5, u6, .ref th, .int (iI (as.length : Int))]) (hth : Aq G H0 th 104 (as.map some ++ List.replicate r none)) (hT : MTs G P H0 as ts) (hgm : MTh G P H0 g gt) (hn : as.length + r ≤ 1000) {mc ms : Nat} (hmc : plC gt ts ≤ mc) (hms : plS gt ts ≤ ms) : zR G l yX4_placeOf (ws_ yX4_placeOf cX4_placeOf 6 (some FieldType.int)) 3 72 mc ms [.ref x, .ref g] H0 (fun r _ => r = .int (iI (fix1 (isLk gt) ts 0))) (Pur H0) := by
  refine zR.start (cc := cX4_placeOf) (by decide) (Nat.le_of_ble_eq_true rfl) ?_
  intro p e s m args below meth c Q cx hQ hmn ls hl
  have hx := cx.1
  have hb := cx.2.1
  have hS : va_S (Pur H0) H0 H0 [] := va_S.rf
  have hl : lv_has ls 6 [(0, .ref x), (1, .ref g)] := hl
  have hL : (as.map some ++ List.replicate r none).length = as.length + r := by rw [List.length_append, List.length_map, List.length_replicate]
  have hlt := hT.1
  obtain ⟨gk, gre, gv, gw, hgO, -, hgv, hgw⟩ := hgm
  obtain ⟨qs1, -, gA1, gO1⟩ := hgv.ors
  obtain ⟨qs2, -, gA2, gO2⟩ := hgw.ors
  obtain ⟨-, -, gk3, gk4, gk5, gk6, -, -, -, -, gk11, -⟩ := gk
  have gl1 : qs1.length = (tVary gt).length := by rw [gO1.1, List.length_map]
  have gl2 : qs2.length = (tVary gt).length := by rw [gO2.1, gk5]
  refine lv_iconst (v := iI (0)) hx hb dX4_placeOf_0 rfl ?_
  refine lv_istore_n (lv' := [(2, .int (iI 0)), (0, .ref x), (1, .ref g)]) hx hb dX4_placeOf_1 rfl hl (by decide) rfl (fun ls hl => ?_)
  have lp : ∀ (fuel : Nat) (j : Nat), (as.length - j) < fuel → (j ≤ as.length) → (fix1 (isLk gt) ts 0 = fix1 (isLk gt) (ts.drop j) j) → ∀ (H : Heap) (locs : List Loc) (ls : Array Slot) (k n : Nat), va_S (Pur H0) H0 H locs → (k + plC gt (ts.drop j) ≤ mc) → (n + plS gt (ts.drop j) ≤ ms) → lv_has ls 6 [(0, .ref x), (1, .ref g), (2, .int (iI ↑j))] → W p l e ⟨3, mc, ms, 72⟩ s m args below meth c H locs k n Q (F0 m 2 ls []) := by
    intro fuel
    induction fuel with
    | zero => intro j hf9; exact absurd hf9 (Nat.not_lt_zero _)
    | succ fuel ih_lp =>
      intro j hf9 hj hf H locs ls k n hS  hr1 hr2 hl
      refine lv_iload_n hx hb dX4_placeOf_2 rfl (lv_at hl 2 rfl) ?_
      refine lv_aload_n hx hb dX4_placeOf_3 rfl (lv_at hl 0 rfl) ?_
      refine z_get cx (k0 := 8) (hx9.ext (Ext.ofS hS)) rfl in_X4 (by decide) q1163 rfl rfl dX4_placeOf_4 ?_
      refine z_icmp_ge cx (tgt := 105) dX4_placeOf_7 (by decide) (by omega) (fun c7 => ?_) (fun c7 => ?_)
      · rw [List.drop_eq_nil_of_le (by omega)] at hf
        refine lv_iconst (v := iI (-1)) hx hb dX4_placeOf_105 rfl ?_
        exact z_iret cx hQ rfl rfl (by rw [hf]; rfl) hS (by omega) dX4_placeOf_106
      · refine lv_aload_n hx hb dX4_placeOf_10 rfl (lv_at hl 0 rfl) ?_
        refine z_get cx (k0 := 7) (hx9.ext (Ext.ofS hS)) rfl in_X4 (by decide) q1162 rfl rfl dX4_placeOf_11 ?_
        refine lv_iload_n hx hb dX4_placeOf_14 rfl (lv_at hl 2 rfl) ?_
        refine z_aald cx (t0 := 4) (hth.ext (Ext.ofS hS)) rfl rfl (j) (by omega) dX4_placeOf_15 (fun x15 hx15 => ?_)
        obtain ⟨a, ha, rfl⟩ := gas hx15 (by omega)
        obtain ⟨t, ht, hok, re, rv, rw9, hOg, -, hrv, hrw⟩ := hT.get ha
        obtain ⟨rs1, -, hA1, hO1⟩ := hrv.ors
        obtain ⟨rs2, -, hA2, hO2⟩ := hrw.ors
        obtain ⟨k1, k2, k3, k4, k5, k6, k7, k8, k9, k10, k11, k12⟩ := hok
        have hl1 : rs1.length = (tVary t).length := by rw [hO1.1, List.length_map]
        have hl2 : rs2.length = (tVary t).length := by rw [hO2.1, k5]
        rw [drop_s ht] at hf hr1 hr2
        rw [fix1] at hf
        have hr1 : k + ((if tVary t = tVary gt then lkC (tVals t) (tVals gt) else 0) + plC gt (ts.drop (j + 1))) ≤ mc := hr1
        have hr2 : n + ((if tVary t = tVary gt then lkS (tVals t) (tVals gt) else 0) + plS gt (ts.drop (j + 1))) ≤ ms := hr2
        have l92 : ∀ (fuel : Nat) (b : Bool), 0 < fuel → (b = isLk gt t) → ∀ (H : Heap) (locs : List Loc) (ls : Array Slot) (k n : Nat), va_S (Pur H0) H0 H locs → (k + plC gt (ts.drop (j + 1)) ≤ mc) → (n + plS gt (ts.drop (j + 1)) ≤ ms) → lv_has ls 6 [(0, .ref x), (1, .ref g), (2, .int (iI ↑j)), (4, .int (iI (b2i b)))] → W p l e ⟨3, mc, ms, 72⟩ s m args below meth c H locs k n Q (F0 m 92 ls []) := by
          intro fuel
          induction fuel with
          | zero => intro b hf9; exact absurd hf9 (Nat.not_lt_zero _)
          | succ fuel ih_l92 =>
            intro b hf9 hb9 H locs ls k n hS  hr1 hr2 hl
            have hbr := b2i_rg b
            refine lv_iload hx hb dX4_placeOf_92 (lv_at hl 3 rfl) ?_
            refine z_if_eq cx (tgt := 99) dX4_placeOf_94 (by decide) (by omega) (fun c94 => ?_) (fun c94 => ?_)
            · have h9 := b2i_1.mp c94
              rw [← hb9, h9, if_neg (by decide)] at hf
              refine z_iinc cx (j := 2) (z := ((j + 1 : Nat) : Int)) (lv' := [(2, .int (iI ((j + 1 : Nat) : Int))), (0, .ref x), (1, .ref g), (4, .int (iI (b2i b)))]) dX4_placeOf_99 hl rfl (by omega) (by decide) rfl (fun ls hl => ?_)
              refine lv_goto (tgt := 2) hx hb dX4_placeOf_102 (by decide) ?_
              exact ih_lp (j + 1) (by omega) (by omega) (by omega) _ _ _ _ _ hS  (by omega) (by omega) (lv_sub hl [1, 2, 0] rfl)
            · have h9 : b = true := by cases b with | true => rfl | false => exact absurd rfl c94
              rw [← hb9, h9, if_pos rfl] at hf
              refine lv_iload_n hx hb dX4_placeOf_97 rfl (lv_at hl 2 rfl) ?_
              exact z_iret cx hQ rfl rfl (by rw [hf]) hS (by omega) dX4_placeOf_98
        have l52 : ∀ (fuel : Nat) (i : Nat) (b : Bool), ((tVary gt).length - i) < fuel → (i ≤ (tVary gt).length) → (isLk gt t = (b && likeV ((tVals t).drop i) ((tVals gt).drop i))) → (b = true → tVary t = tVary gt) → ∀ (H : Heap) (locs : List Loc) (ls : Array Slot) (k n : Nat), va_S (Pur H0) H0 H locs → (k + ((if b = true then lkC ((tVals t).drop i) ((tVals gt).drop i) else 0) + plC gt (ts.drop (j + 1))) ≤ mc) → (n + ((if b = true then lkS ((tVals t).drop i) ((tVals gt).drop i) else 0) + plS gt (ts.drop (j + 1))) ≤ ms) → lv_has ls 6 [(0, .ref x), (1, .ref g), (2, .int (iI ↑j)), (3, .ref a), (4, .int (iI (b2i b))), (5, .int (iI ↑i))] → W p l e ⟨3, mc, ms, 72⟩ s m args below meth c H locs k n Q (F0 m 52 ls []) := by
          intro fuel
          induction fuel with
          | zero => intro i b hf9; exact absurd hf9 (Nat.not_lt_zero _)
          | succ fuel ih_l52 =>
            intro i b hf9 hi hb9 hbv H locs ls k n hS  hr1 hr2 hl
            have hbr := b2i_rg b
            refine lv_iload hx hb dX4_placeOf_52 (lv_at hl 5 rfl) ?_
            refine lv_aload_n hx hb dX4_placeOf_54 rfl (lv_at hl 1 rfl) ?_
            refine z_get cx (k0 := 9) (hgO.ext (Ext.ofS hS)) rfl in_X8 (by decide) q1306 rfl rfl dX4_placeOf_55 ?_
            refine z_alenQ cx (t0 := 5) (gA1.ext (Ext.ofS hS)) rfl dX4_placeOf_58 ?_
            refine z_icmp_ge cx (tgt := 92) dX4_placeOf_59 (by decide) (by omega) (fun c59 => ?_) (fun c59 => ?_)
            · rw [List.drop_eq_nil_of_le (show (tVals gt).length ≤ i by omega)] at hb9
              have e9 : likeV ((tVals t).drop i) [] = true := by unfold likeV; cases (tVals t).drop i <;> rfl
              exact l92 _ b (Nat.lt_succ_self _) (by rw [hb9, e9, Bool.and_true]) _ _ _ _ _ hS  (by omega) (by omega) (lv_sub hl [0, 1, 2, 4] rfl)
            · refine lv_iload hx hb dX4_placeOf_62 (lv_at hl 4 rfl) ?_
              refine z_if_eq cx (tgt := 92) dX4_placeOf_64 (by decide) (by omega) (fun c64 => ?_) (fun c64 => ?_)
              · have h9 := b2i_1.mp c64
                subst h9
                exact l92 _ false (Nat.lt_succ_self _) (by rw [hb9]; rfl) _ _ _ _ _ hS  (by omega) (by omega) (lv_sub hl [0, 1, 2, 4] rfl)
              · have h9 : b = true := by cases b with | true => rfl | false => exact absurd rfl c64
                subst h9
                have hvv := hbv rfl
                rw [if_pos rfl] at hr1 hr2
                have hll : (tVary t).length = (tVary gt).length := by rw [hvv]
                refine lv_aload_n hx hb dX4_placeOf_67 rfl (lv_at hl 3 rfl) ?_
                refine z_get cx (k0 := 10) (hOg.ext (Ext.ofS hS)) rfl in_X8 (by decide) q1307 rfl rfl dX4_placeOf_68 ?_
                refine lv_iload hx hb dX4_placeOf_71 (lv_at hl 5 rfl) ?_
                refine z_aald cx (t0 := 5) (hA2.ext (Ext.ofS hS)) rfl rfl (i) (by omega) dX4_placeOf_73 (fun x73 hx73 => ?_)
                obtain ⟨w, hw, hOw⟩ := hO2.get hx73
                refine lv_aload_n hx hb dX4_placeOf_74 rfl (lv_at hl 1 rfl) ?_
                refine z_get cx (k0 := 10) (hgO.ext (Ext.ofS hS)) rfl in_X8 (by decide) q1307 rfl rfl dX4_placeOf_75 ?_
                refine lv_iload hx hb dX4_placeOf_78 (lv_at hl 5 rfl) ?_
                refine z_aald cx (t0 := 5) (gA2.ext (Ext.ofS hS)) rfl rfl (i) (by omega) dX4_placeOf_80 (fun x80 hx80 => ?_)
                obtain ⟨w2, hw2, hOw2⟩ := gO2.get hx80
                have hcw := ochs_of k6 hw
                have hcw2 := ochs_of gk6 hw2
                rw [drop_s hw, drop_s hw2] at hb9 hr1 hr2
                rw [lkC] at hr1
                rw [lkS] at hr2
                rw [likeV] at hb9
                refine z_callS cx (j := 2) (m_X4_alike G l _ P P x73 x80 w w2 (hOw.kp (Kp.ext (Ext.ofS hS))) (hOw2.kp (Kp.ext (Ext.ofS hS))) hcw hcw2 (mc := alC w w2) (ms := alS w w2) (Nat.le_refl _) (Nat.le_refl _)) (lw_S q1236 q1237 q57 q1238) (by decide +kernel) rfl (rest := []) rfl hl (Nat.le_of_ble_eq_true rfl) (by decide) (by omega) dX4_placeOf_81 hS (fun q h => Nat.le_trans hS.1 h) (fun v81 H locs hp81 hz9 hk9 hS => ?_)
                have hE9 := Ext.of hz9 hk9 (fun q h => h)
                have hb81 := b2i_rg (alk w w2)
                subst hp81
                refine lv_istore (lv' := [(4, .int (iI (b2i (alk w w2)))), (0, .ref x), (1, .ref g), (2, .int (iI ↑j)), (3, .ref a), (5, .int (iI ↑i))]) hx hb dX4_placeOf_84 hl (by decide) rfl (fun ls hl => ?_)
                refine z_iinc cx (j := 5) (z := ((i + 1 : Nat) : Int)) (lv' := [(5, .int (iI ((i + 1 : Nat) : Int))), (4, .int (iI (b2i (alk w w2)))), (0, .ref x), (1, .ref g), (2, .int (iI ↑j)), (3, .ref a)]) dX4_placeOf_86 hl rfl (by omega) (by decide) rfl (fun ls hl => ?_)
                refine lv_goto (tgt := 52) hx hb dX4_placeOf_89 (by decide) ?_
                exact ih_l52 (i + 1) (alk w w2) (by omega) (by omega) (by rw [hb9, Bool.true_and]) (fun _ => hvv) _ _ _ _ _ hS  (by split <;> omega) (by split <;> omega) (lv_sub hl [2, 3, 4, 5, 1, 0] rfl)
        refine lv_astore_n (lv' := [(3, .ref a), (0, .ref x), (1, .ref g), (2, .int (iI ↑j))]) hx hb dX4_placeOf_16 rfl hl (by decide) rfl (fun ls hl => ?_)
        refine lv_aload_n hx hb dX4_placeOf_17 rfl (lv_at hl 0 rfl) ?_
        refine z_get cx (k0 := 0) (hOg.ext (Ext.ofS hS)) rfl in_X8 (by decide) q1295 rfl rfl dX4_placeOf_18 ?_
        refine lv_aload_n hx hb dX4_placeOf_21 rfl (lv_at hl 2 rfl) ?_
        refine z_get cx (k0 := 0) (hgO.ext (Ext.ofS hS)) rfl in_X8 (by decide) q1295 rfl rfl dX4_placeOf_22 ?_
        refine z_icmp_ne cx (tgt := 46) dX4_placeOf_25 (by decide) (by omega) (fun c25 => ?_) (fun c25 => ?_)
        · have e9 : decide (tPath t = tPath gt) = false := decide_eq_false c25
          refine lv_iconst (v := iI (0)) hx hb dX4_placeOf_46 rfl ?_
          refine lv_istore (lv' := [(4, .int (iI 0)), (3, .ref a), (0, .ref x), (1, .ref g), (2, .int (iI ↑j))]) hx hb dX4_placeOf_47 hl (by decide) rfl (fun ls hl => ?_)
          refine lv_iconst (v := iI (0)) hx hb dX4_placeOf_49 rfl ?_
          refine lv_istore (lv' := [(5, .int (iI 0)), (4, .int (iI 0)), (3, .ref a), (0, .ref x), (1, .ref g), (2, .int (iI ↑j))]) hx hb dX4_placeOf_50 hl (by decide) rfl (fun ls hl => ?_)
          exact l52 _ 0 false (Nat.lt_succ_self _) (by omega) (by rw [isLk, e9]; rfl) (fun h => by cases h) _ _ _ _ _ hS  (by rw [if_neg (by decide)]; omega) (by rw [if_neg (by decide)]; omega) (lv_sub hl [3, 4, 5, 2, 1, 0] rfl)
        · have e9 : decide (tPath t = tPath gt) = true := decide_eq_true c25
          refine lv_aload_n hx hb dX4_placeOf_28 rfl (lv_at hl 0 rfl) ?_
          refine z_get cx (k0 := 9) (hOg.ext (Ext.ofS hS)) rfl in_X8 (by decide) q1306 rfl rfl dX4_placeOf_29 ?_
          refine lv_aload_n hx hb dX4_placeOf_32 rfl (lv_at hl 2 rfl) ?_
          refine z_get cx (k0 := 9) (hgO.ext (Ext.ofS hS)) rfl in_X8 (by decide) q1306 rfl rfl dX4_placeOf_33 ?_
          refine z_callS cx (j := 2) (m_X4_sameList G l _ P P rv gv (tVary t) (tVary gt) (hrv.ext (Ext.ofS hS)) (hgv.ext (Ext.ofS hS)) (fun y hy => ⟨(k3 y hy).1, by have := (k3 y hy).2; omega⟩) (fun y hy => ⟨(gk3 y hy).1, by have := (gk3 y hy).2; omega⟩) ⟨by omega, by omega⟩ (mc := 0) (ms := 0)) (lw_S q1244 q1245 q57 q1246) (by decide +kernel) rfl (rest := []) rfl hl (Nat.le_of_ble_eq_true rfl) (by decide) (by omega) dX4_placeOf_36 hS (fun q h => Nat.le_trans hS.1 h) (fun v36 H locs hp36 hz9 hk9 hS => ?_)
          have hE9 := Ext.of hz9 hk9 (fun q h => h)
          have hb36 := b2i_rg (decide (tVary t = tVary gt))
          subst hp36
          refine z_if_eq cx (tgt := 46) dX4_placeOf_39 (by decide) (by omega) (fun c39 => ?_) (fun c39 => ?_)
          · have h9 := b2i_F c39
            refine lv_iconst (v := iI (0)) hx hb dX4_placeOf_46 rfl ?_
            refine lv_istore (lv' := [(4, .int (iI 0)), (3, .ref a), (0, .ref x), (1, .ref g), (2, .int (iI ↑j))]) hx hb dX4_placeOf_47 hl (by decide) rfl (fun ls hl => ?_)
            refine lv_iconst (v := iI (0)) hx hb dX4_placeOf_49 rfl ?_
            refine lv_istore (lv' := [(5, .int (iI 0)), (4, .int (iI 0)), (3, .ref a), (0, .ref x), (1, .ref g), (2, .int (iI ↑j))]) hx hb dX4_placeOf_50 hl (by decide) rfl (fun ls hl => ?_)
            exact l52 _ 0 false (Nat.lt_succ_self _) (by omega) (by rw [isLk, e9, decide_eq_false h9]; rfl) (fun h => by cases h) _ _ _ _ _ hS  (by rw [if_neg (by decide)]; omega) (by rw [if_neg (by decide)]; omega) (lv_sub hl [3, 4, 5, 2, 1, 0] rfl)
          · have h9 := b2i_T c39
            rw [if_pos h9] at hr1 hr2
            refine lv_iconst (v := iI (1)) hx hb dX4_placeOf_42 rfl ?_
            refine lv_goto (tgt := 47) hx hb dX4_placeOf_43 (by decide) ?_
            refine lv_istore (lv' := [(4, .int (iI 1)), (3, .ref a), (0, .ref x), (1, .ref g), (2, .int (iI ↑j))]) hx hb dX4_placeOf_47 hl (by decide) rfl (fun ls hl => ?_)
            refine lv_iconst (v := iI (0)) hx hb dX4_placeOf_49 rfl ?_
            refine lv_istore (lv' := [(5, .int (iI 0)), (4, .int (iI 1)), (3, .ref a), (0, .ref x), (1, .ref g), (2, .int (iI ↑j))]) hx hb dX4_placeOf_50 hl (by decide) rfl (fun ls hl => ?_)
            exact l52 _ 0 true (Nat.lt_succ_self _) (by omega) (by rw [isLk, e9, decide_eq_true h9]; rfl) (fun _ => h9) _ _ _ _ _ hS  (by rw [if_pos rfl, List.drop_zero, List.drop_zero]; omega) (by rw [if_pos rfl, List.drop_zero, List.drop_zero]; omega) (lv_sub hl [3, 4, 5, 2, 1, 0] rfl)
  exact lp _ 0 (Nat.lt_succ_self _) (by omega) rfl _ _ _ _ _ hS  (by rw [List.drop_zero]; omega) (by rw [List.drop_zero]; omega) (lv_sub hl [1, 2, 0] rfl)
set_option maxHeartbeats 4000000 in
set_option maxRecDepth 100000 in
theorem m_X4_answer (G : zE) (l : Launch) (H0 : Heap) (P P1 : Nat → Prop) (x g : Nat) (r0 : Option Nat) (v : Option (List Int)) (t : Th) (ti : Int) (u0 u1 u2 u4 u5 u6 u7 u8 : Value) (hx9 : Ob G H0 x 5 [u0, u1, u2, .int (iI ti), u4, u5, u6, u7, u8]) (hgm : MTh G P H0 g t) (h1 : Orw G P1 H0 r0 v) (hcv : ochs v ∧ olen v 40000) (hti : 0 ≤ ti ∧ ti ≤ 1000000000) {mc ms : Nat} (hmc : 4 * (1 + wC v) ≤ mc) (hms : 4 * (16 + wS v) ≤ ms) : zR G l yX4_answer (ws_ yX4_answer cX4_answer 7 (some FieldType.int)) 5 115 mc ms [.ref x, .ref g, va_rf r0] H0 (fun r _ => r = .int (iI (ans v t ti))) (Pur H0) := by
  refine zR.start (cc := cX4_answer) (by decide) (by cases r0 <;> exact (Nat.le_of_ble_eq_true rfl)) ?_
  intro p e s m args below meth c Q cx hQ hmn ls hl
  have hx := cx.1
  have hb := cx.2.1
  have hS : va_S (Pur H0) H0 H0 [] := va_S.rf
  have hl : lv_has ls 7 [(0, .ref x), (1, .ref g), (2, va_rf r0)] := (by cases r0 <;> exact hl)
  obtain ⟨hok, re, rv, rw9, hOg, -⟩ := hgm
  have hag := hok.age hti
  generalize hA9 : agT t ti = AG at hag
  have w1 := wrd_rg v nMa
  have w2 := wrd_rg v nMf
  have w3 := wrd_rg v nMs
  refine z_aload_nq cx dX4_answer_0 rfl (lv_at hl 2 rfl) ?_
  refine lv_ldc2 hx hb cx.wn (cx.ts _ q1254) dX4_answer_1 ?_
  refine lv_lconst (v := 0) hx hb dX4_answer_4 (by decide) ?_
  refine z_callS cx (j := 3) (m_X4_has G l _ P1 r0 v 7957628971445872741 0 nNc nm_nc ok_nc (h1.kp (Kp.ext (Ext.ofS hS))) hcv (mc := 1 + wC v) (ms := 16 + wS v) (Nat.le_refl _) (Nat.le_refl _)) (lw_S q1255 q1256 q57 q1257) (by decide +kernel) rfl (rest := []) rfl hl (Nat.le_of_ble_eq_true rfl) (by decide) (by omega) dX4_answer_5 hS (fun q h => Nat.le_trans hS.1 h) (fun v5 H locs hp5 hz9 hk9 hS => ?_)
  have hE9 := Ext.of hz9 hk9 (fun q h => h)
  have hb5 := b2i_rg (hasW v nNc)
  subst hp5
  refine z_if_eq cx (tgt := 13) dX4_answer_8 (by decide) (by omega) (fun c8 => ?_) (fun c8 => ?_)
  · have e1 : ¬ hasW v nNc = true := fun h => by rw [h] at c8; exact absurd c8 (by decide)
    refine z_aload_nq cx dX4_answer_13 rfl (lv_at hl 2 rfl) ?_
    refine lv_ldc2 hx hb cx.wn (cx.ts _ q1267) dX4_answer_14 ?_
    refine lv_lconst (v := 0) hx hb dX4_answer_17 (by decide) ?_
    refine z_callS cx (j := 2) (m_X4_name G l _ 30787941246789477 0 (mc := 1) (ms := 16) (Nat.le_refl _) (Nat.le_refl _)) (lw_S q1217 q1218 q57 q1219) (by decide +kernel) rfl (rest := [va_rf r0]) rfl hl (by cases r0 <;> exact (Nat.le_of_ble_eq_true rfl)) (by decide) (by omega) dX4_answer_18 hS (fun q h => Nat.le_trans hS.1 h) (fun v18 H locs hp18 hz9 hk9 hS => ?_)
    have hE9 := Ext.of hz9 hk9 (fun q h => h)
    obtain ⟨b, rfl, -, Ab⟩ := hp18
    rw [nm_ma] at Ab
    refine z_callS cx (j := 2) (m_X4_word G l _ P1 b r0 v nMa (h1.kp (Kp.ext (Ext.ofS hS))) Ab hcv ok_ma (mc := wC v) (ms := wS v) (Nat.le_refl _) (Nat.le_refl _)) (lw_S q1258 q1259 q57 q1260) (by decide +kernel) rfl (rest := []) rfl hl (Nat.le_of_ble_eq_true rfl) (by decide) (by omega) dX4_answer_21 hS (fun q h => Nat.le_trans hS.1 h) (fun v21 H locs hp21 hz9 hk9 hS => ?_)
    have hE9 := Ext.of hz9 hk9 (fun q h => h)
    subst hp21
    have l40 : ∀ (fuel : Nat) , 0 < fuel → (¬ (0 ≤ wrd v nMa ∧ wrd v nMa < AG)) → ∀ (H : Heap) (locs : List Loc) (ls : Array Slot) (k n : Nat), va_S (Pur H0) H0 H locs → (k + 2 * (1 + wC v) ≤ mc) → (n + 2 * (16 + wS v) ≤ ms) → lv_has ls 7 [(0, .ref x), (1, .ref g), (2, va_rf r0)] → W p l e ⟨5, mc, ms, 115⟩ s m args below meth c H locs k n Q (F0 m 40 ls []) := by
      intro fuel
      induction fuel with
      | zero => intro  hf9; exact absurd hf9 (Nat.not_lt_zero _)
      | succ fuel ih_l40 =>
        intro  hf9 he2 H locs ls k n hS  hr1 hr2 hl
        refine z_aload_nq cx dX4_answer_40 rfl (lv_at hl 2 rfl) ?_
        refine lv_ldc2 hx hb cx.wn (cx.ts _ q1272) dX4_answer_41 ?_
        refine lv_ldc2 hx hb cx.wn (cx.ts _ q1273) dX4_answer_44 ?_
        refine z_callS cx (j := 2) (m_X4_name G l _ 7883953763960120691 104 (mc := 1) (ms := 16) (Nat.le_refl _) (Nat.le_refl _)) (lw_S q1217 q1218 q57 q1219) (by decide +kernel) rfl (rest := [va_rf r0]) rfl hl (by cases r0 <;> exact (Nat.le_of_ble_eq_true rfl)) (by decide) (by omega) dX4_answer_47 hS (fun q h => Nat.le_trans hS.1 h) (fun v47 H locs hp47 hz9 hk9 hS => ?_)
        have hE9 := Ext.of hz9 hk9 (fun q h => h)
        obtain ⟨b, rfl, -, Ab⟩ := hp47
        rw [nm_mf] at Ab
        refine z_callS cx (j := 2) (m_X4_word G l _ P1 b r0 v nMf (h1.kp (Kp.ext (Ext.ofS hS))) Ab hcv ok_mf (mc := wC v) (ms := wS v) (Nat.le_refl _) (Nat.le_refl _)) (lw_S q1258 q1259 q57 q1260) (by decide +kernel) rfl (rest := []) rfl hl (Nat.le_of_ble_eq_true rfl) (by decide) (by omega) dX4_answer_50 hS (fun q h => Nat.le_trans hS.1 h) (fun v50 H locs hp50 hz9 hk9 hS => ?_)
        have hE9 := Ext.of hz9 hk9 (fun q h => h)
        subst hp50
        refine lv_istore (lv' := [(4, .int (iI (wrd v nMf))), (0, .ref x), (1, .ref g), (2, va_rf r0)]) hx hb dX4_answer_53 hl (by decide) rfl (fun ls hl => ?_)
        refine z_aload_nq cx dX4_answer_55 rfl (lv_at hl 3 rfl) ?_
        refine lv_ldc2 hx hb cx.wn (cx.ts _ q1274) dX4_answer_56 ?_
        refine lv_ldc2 hx hb cx.wn (cx.ts _ q1275) dX4_answer_59 ?_
        refine z_callS cx (j := 2) (m_X4_name G l _ 7881712959480947052 101 (mc := 1) (ms := 16) (Nat.le_refl _) (Nat.le_refl _)) (lw_S q1217 q1218 q57 q1219) (by decide +kernel) rfl (rest := [va_rf r0]) rfl hl (by cases r0 <;> exact (Nat.le_of_ble_eq_true rfl)) (by decide) (by omega) dX4_answer_62 hS (fun q h => Nat.le_trans hS.1 h) (fun v62 H locs hp62 hz9 hk9 hS => ?_)
        have hE9 := Ext.of hz9 hk9 (fun q h => h)
        obtain ⟨b, rfl, -, Ab⟩ := hp62
        rw [nm_ms] at Ab
        refine z_callS cx (j := 2) (m_X4_word G l _ P1 b r0 v nMs (h1.kp (Kp.ext (Ext.ofS hS))) Ab hcv ok_ms (mc := wC v) (ms := wS v) (Nat.le_refl _) (Nat.le_refl _)) (lw_S q1258 q1259 q57 q1260) (by decide +kernel) rfl (rest := []) rfl hl (Nat.le_of_ble_eq_true rfl) (by decide) (by omega) dX4_answer_65 hS (fun q h => Nat.le_trans hS.1 h) (fun v65 H locs hp65 hz9 hk9 hS => ?_)
        have hE9 := Ext.of hz9 hk9 (fun q h => h)
        subst hp65
        refine lv_istore (lv' := [(5, .int (iI (wrd v nMs))), (4, .int (iI (wrd v nMf))), (0, .ref x), (1, .ref g), (2, va_rf r0)]) hx hb dX4_answer_68 hl (by decide) rfl (fun ls hl => ?_)
        have l110 : ∀ (fuel : Nat) (b : Bool), 0 < fuel → (b = alw v t ti) → ∀ (H : Heap) (locs : List Loc) (ls : Array Slot) (k n : Nat), va_S (Pur H0) H0 H locs → (k ≤ mc) → (n ≤ ms) → lv_has ls 7 [(0, .ref x), (1, .ref g), (4, .int (iI (wrd v nMf))), (6, .int (iI (b2i b)))] → W p l e ⟨5, mc, ms, 115⟩ s m args below meth c H locs k n Q (F0 m 110 ls []) := by
          intro fuel
          induction fuel with
          | zero => intro b hf9; exact absurd hf9 (Nat.not_lt_zero _)
          | succ fuel ih_l110 =>
            intro b hf9 hb9 H locs ls k n hS  hr1 hr2 hl
            have hbr := b2i_rg b
            have hans : ans v t ti = if frs t ti = true then (if wrd v nMf < 0 ∨ AG + wrd v nMf < tLife t ∨ b = true then 1 else 3) else if b = true then 2 else 3 := by rw [ans, if_neg e1, hA9, if_neg he2, ← hb9]
            have hfb := b2i_rg (frs t ti)
            refine lv_aload_n hx hb dX4_answer_110 rfl (lv_at hl 0 rfl) ?_
            refine lv_aload_n hx hb dX4_answer_111 rfl (lv_at hl 1 rfl) ?_
            refine z_callV cx (j := 1) (m_X4_isFresh G l _ x g (tLife t) (tAge t) ti (tSince t) (hasW (tCc t) nNc) _ _ _ _ _ _ _ _ _ (hx9.ext (Ext.ofS hS)) (hOg.ext (Ext.ofS hS)) rfl ⟨(show rg (agT t ti) by rw [hA9]; omega), by omega⟩ (mc := 0) (ms := 0)) (lw_V q1276 q1278 qs23 q57 q1279) (zrecv cx (hx9.ext (Ext.ofS hS)) rfl) (by decide +kernel) rfl (rest := []) rfl hl (Nat.le_of_ble_eq_true rfl) (by decide) (by omega) dX4_answer_112 hS (fun q h => Nat.le_trans hS.1 h) (fun v112 H locs hp112 hz9 hk9 hS => ?_)
            have hE9 := Ext.of hz9 hk9 (fun q h => h)
            obtain rfl : v112 = Value.int (iI (b2i (frs t ti))) := hp112
            have hb112 := b2i_rg (frs t ti)
            refine z_if_eq cx (tgt := 149) dX4_answer_115 (by decide) (by omega) (fun c115 => ?_) (fun c115 => ?_)
            · have h9 := b2i_1.mp c115
              rw [h9, if_neg (by decide)] at hans
              refine lv_iload hx hb dX4_answer_149 (lv_at hl 3 rfl) ?_
              refine z_if_eq cx (tgt := 158) dX4_answer_151 (by decide) (by omega) (fun c151 => ?_) (fun c151 => ?_)
              · refine lv_iconst (v := iI (3)) hx hb dX4_answer_158 rfl ?_
                exact z_iret cx hQ rfl rfl (by rw [hans]; cases b with | true => (first | rfl | exact absurd c151 (by decide)) | false => (first | rfl | exact absurd rfl c151)) hS (by omega) dX4_answer_159
              · refine lv_iconst (v := iI (2)) hx hb dX4_answer_154 rfl ?_
                refine lv_goto (tgt := 159) hx hb dX4_answer_155 (by decide) ?_
                exact z_iret cx hQ rfl rfl (by rw [hans]; cases b with | true => (first | rfl | exact absurd c151 (by decide)) | false => (first | rfl | exact absurd rfl c151)) hS (by omega) dX4_answer_159
            · have h9 : frs t ti = true := by cases h : frs t ti with | true => rfl | false => rw [h] at c115; exact absurd rfl c115
              rw [h9, if_pos rfl] at hans
              have yes : (wrd v nMf < 0 ∨ AG + wrd v nMf < tLife t ∨ b = true) → ans v t ti = 1 := fun h => by rw [hans, if_pos h]
              refine lv_iload hx hb dX4_answer_118 (lv_at hl 2 rfl) ?_
              refine z_if_lt cx (tgt := 143) dX4_answer_120 (by decide) (by omega) (fun c120 => ?_) (fun c120 => ?_)
              · refine lv_iconst (v := iI (1)) hx hb dX4_answer_143 rfl ?_
                refine lv_goto (tgt := 148) hx hb dX4_answer_144 (by decide) ?_
                exact z_iret cx hQ rfl rfl (by rw [yes (Or.inl c120)]) hS (by omega) dX4_answer_148
              · refine lv_aload_n hx hb dX4_answer_123 rfl (lv_at hl 0 rfl) ?_
                refine lv_aload_n hx hb dX4_answer_124 rfl (lv_at hl 1 rfl) ?_
                refine z_callV cx (j := 1) (m_X4_ageOf G l _ x g (tAge t) ti (tSince t) _ _ (hx9.ext (Ext.ofS hS)) (hOg.ext (Ext.ofS hS)) rfl rfl rfl (mc := 0) (ms := 0)) (lw_V q1268 q1270 qs22 q57 q1271) (zrecv cx (hx9.ext (Ext.ofS hS)) rfl) (by decide +kernel) rfl (rest := []) rfl hl (Nat.le_of_ble_eq_true rfl) (by decide) (by omega) dX4_answer_125 hS (fun q h => Nat.le_trans hS.1 h) (fun v125 H locs hp125 hz9 hk9 hS => ?_)
                have hE9 := Ext.of hz9 hk9 (fun q h => h)
                obtain rfl : v125 = Value.int (iI AG) := by rw [← hA9]; exact hp125
                refine lv_iload hx hb dX4_answer_128 (lv_at hl 2 rfl) ?_
                refine z_iadd cx (z := AG + (wrd v nMf)) dX4_answer_130 (by omega) ?_
                refine lv_aload_n hx hb dX4_answer_131 rfl (lv_at hl 1 rfl) ?_
                refine z_get cx (k0 := 3) (hOg.ext (Ext.ofS hS)) rfl in_X8 (by decide) q1300 rfl rfl dX4_answer_132 ?_
                refine z_icmp_lt cx (tgt := 143) dX4_answer_135 (by decide) (by omega) (fun c135 => ?_) (fun c135 => ?_)
                · refine lv_iconst (v := iI (1)) hx hb dX4_answer_143 rfl ?_
                  refine lv_goto (tgt := 148) hx hb dX4_answer_144 (by decide) ?_
                  exact z_iret cx hQ rfl rfl (by rw [yes (Or.inr (Or.inl c135))]) hS (by omega) dX4_answer_148
                · refine lv_iload hx hb dX4_answer_138 (lv_at hl 3 rfl) ?_
                  refine z_if_eq cx (tgt := 147) dX4_answer_140 (by decide) (by omega) (fun c140 => ?_) (fun c140 => ?_)
                  · have hb0 := b2i_1.mp c140
                    refine lv_iconst (v := iI (3)) hx hb dX4_answer_147 rfl ?_
                    exact z_iret cx hQ rfl rfl (by rw [hans, if_neg (by rw [hb0]; rintro (q | q | q); omega; omega; cases q)]) hS (by omega) dX4_answer_148
                  · have hb1 : b = true := by cases b with | true => rfl | false => exact absurd rfl c140
                    refine lv_iconst (v := iI (1)) hx hb dX4_answer_143 rfl ?_
                    refine lv_goto (tgt := 148) hx hb dX4_answer_144 (by decide) ?_
                    exact z_iret cx hQ rfl rfl (by rw [yes (Or.inr (Or.inr hb1))]) hS (by omega) dX4_answer_148
        have hmb := b2i_rg (mka (tCc t))
        have hal : alw v t ti = (!(mka (tCc t)) && decide (wrd v nMs = -1 ∨ (0 ≤ wrd v nMs ∧ AG < tLife t + wrd v nMs))) := by rw [alw, hA9]
        refine lv_aload_n hx hb dX4_answer_70 rfl (lv_at hl 3 rfl) ?_
        refine z_get cx (k0 := 7) (hOg.ext (Ext.ofS hS)) rfl in_X8 (by decide) q1304 rfl rfl dX4_answer_71 ?_
        refine z_if_ne cx (tgt := 107) dX4_answer_74 (by decide) (by omega) (fun c74 => ?_) (fun c74 => ?_)
        · have h9 : mka (tCc t) = true := by cases h : mka (tCc t) with | true => rfl | false => rw [h] at c74; exact absurd rfl c74
          refine lv_iconst (v := iI (0)) hx hb dX4_answer_107 rfl ?_
          refine lv_istore (lv' := [(6, .int (iI 0)), (5, .int (iI (wrd v nMs))), (4, .int (iI (wrd v nMf))), (0, .ref x), (1, .ref g), (2, va_rf r0)]) hx hb dX4_answer_108 hl (by decide) rfl (fun ls hl => ?_)
          exact l110 _ false (Nat.lt_succ_self _) (by rw [hal, h9]; rfl) _ _ _ _ _ hS  (by omega) (by omega) (lv_sub hl [3, 4, 2, 0] rfl)
        · have h9 := b2i_1.mp c74
          rw [h9, Bool.not_false, Bool.true_and] at hal
          refine lv_iload hx hb dX4_answer_77 (lv_at hl 0 rfl) ?_
          refine lv_iconst (v := iI (-1)) hx hb dX4_answer_79 rfl ?_
          refine z_icmp_eq cx (tgt := 103) dX4_answer_80 (by decide) (by omega) (fun c80 => ?_) (fun c80 => ?_)
          · refine lv_iconst (v := iI (1)) hx hb dX4_answer_103 rfl ?_
            refine lv_goto (tgt := 108) hx hb dX4_answer_104 (by decide) ?_
            refine lv_istore (lv' := [(6, .int (iI 1)), (5, .int (iI (wrd v nMs))), (4, .int (iI (wrd v nMf))), (0, .ref x), (1, .ref g), (2, va_rf r0)]) hx hb dX4_answer_108 hl (by decide) rfl (fun ls hl => ?_)
            exact l110 _ true (Nat.lt_succ_self _) (by rw [hal, decide_eq_true (Or.inl c80)]) _ _ _ _ _ hS  (by omega) (by omega) (lv_sub hl [3, 4, 2, 0] rfl)
          · refine lv_iload hx hb dX4_answer_83 (lv_at hl 0 rfl) ?_
            refine z_if_lt cx (tgt := 107) dX4_answer_85 (by decide) (by omega) (fun c85 => ?_) (fun c85 => ?_)
            · refine lv_iconst (v := iI (0)) hx hb dX4_answer_107 rfl ?_
              refine lv_istore (lv' := [(6, .int (iI 0)), (5, .int (iI (wrd v nMs))), (4, .int (iI (wrd v nMf))), (0, .ref x), (1, .ref g), (2, va_rf r0)]) hx hb dX4_answer_108 hl (by decide) rfl (fun ls hl => ?_)
              exact l110 _ false (Nat.lt_succ_self _) (by rw [hal, decide_eq_false (by omega)]) _ _ _ _ _ hS  (by omega) (by omega) (lv_sub hl [3, 4, 2, 0] rfl)
            · refine lv_aload_n hx hb dX4_answer_88 rfl (lv_at hl 2 rfl) ?_
              refine lv_aload_n hx hb dX4_answer_89 rfl (lv_at hl 3 rfl) ?_
              refine z_callV cx (j := 1) (m_X4_ageOf G l _ x g (tAge t) ti (tSince t) _ _ (hx9.ext (Ext.ofS hS)) (hOg.ext (Ext.ofS hS)) rfl rfl rfl (mc := 0) (ms := 0)) (lw_V q1268 q1270 qs22 q57 q1271) (zrecv cx (hx9.ext (Ext.ofS hS)) rfl) (by decide +kernel) rfl (rest := []) rfl hl (Nat.le_of_ble_eq_true rfl) (by decide) (by omega) dX4_answer_90 hS (fun q h => Nat.le_trans hS.1 h) (fun v90 H locs hp90 hz9 hk9 hS => ?_)
              have hE9 := Ext.of hz9 hk9 (fun q h => h)
              obtain rfl : v90 = Value.int (iI AG) := by rw [← hA9]; exact hp90
              refine lv_aload_n hx hb dX4_answer_93 rfl (lv_at hl 3 rfl) ?_
              refine z_get cx (k0 := 3) (hOg.ext (Ext.ofS hS)) rfl in_X8 (by decide) q1300 rfl rfl dX4_answer_94 ?_
              refine lv_iload hx hb dX4_answer_97 (lv_at hl 0 rfl) ?_
              refine z_iadd cx (z := (tLife t) + (wrd v nMs)) dX4_answer_99 (by omega) ?_
              refine z_icmp_ge cx (tgt := 107) dX4_answer_100 (by decide) (by omega) (fun c100 => ?_) (fun c100 => ?_)
              · refine lv_iconst (v := iI (0)) hx hb dX4_answer_107 rfl ?_
                refine lv_istore (lv' := [(6, .int (iI 0)), (5, .int (iI (wrd v nMs))), (4, .int (iI (wrd v nMf))), (0, .ref x), (1, .ref g), (2, va_rf r0)]) hx hb dX4_answer_108 hl (by decide) rfl (fun ls hl => ?_)
                exact l110 _ false (Nat.lt_succ_self _) (by rw [hal, decide_eq_false (by omega)]) _ _ _ _ _ hS  (by omega) (by omega) (lv_sub hl [3, 4, 2, 0] rfl)
              · refine lv_iconst (v := iI (1)) hx hb dX4_answer_103 rfl ?_
                refine lv_goto (tgt := 108) hx hb dX4_answer_104 (by decide) ?_
                refine lv_istore (lv' := [(6, .int (iI 1)), (5, .int (iI (wrd v nMs))), (4, .int (iI (wrd v nMf))), (0, .ref x), (1, .ref g), (2, va_rf r0)]) hx hb dX4_answer_108 hl (by decide) rfl (fun ls hl => ?_)
                exact l110 _ true (Nat.lt_succ_self _) (by rw [hal, decide_eq_true (by omega)]) _ _ _ _ _ hS  (by omega) (by omega) (lv_sub hl [3, 4, 2, 0] rfl)
    refine lv_istore_n (lv' := [(3, .int (iI (wrd v nMa))), (0, .ref x), (1, .ref g), (2, va_rf r0)]) hx hb dX4_answer_24 rfl hl (by decide) (by cases r0 <;> exact rfl) (fun ls hl => ?_)
    refine lv_iload_n hx hb dX4_answer_25 rfl (lv_at hl 0 rfl) ?_
    refine z_if_lt cx (tgt := 40) dX4_answer_26 (by decide) (by omega) (fun c26 => ?_) (fun c26 => ?_)
    · exact l40 _  (Nat.lt_succ_self _) (by omega) _ _ _ _ _ hS  (by omega) (by omega) (lv_sub hl [1, 2, 3] rfl)
    · refine lv_aload_n hx hb dX4_answer_29 rfl (lv_at hl 1 rfl) ?_
      refine lv_aload_n hx hb dX4_answer_30 rfl (lv_at hl 2 rfl) ?_
      refine z_callV cx (j := 1) (m_X4_ageOf G l _ x g (tAge t) ti (tSince t) _ _ (hx9.ext (Ext.ofS hS)) (hOg.ext (Ext.ofS hS)) rfl rfl rfl (mc := 0) (ms := 0)) (lw_V q1268 q1270 qs22 q57 q1271) (zrecv cx (hx9.ext (Ext.ofS hS)) rfl) (by decide +kernel) rfl (rest := []) rfl hl (Nat.le_of_ble_eq_true rfl) (by decide) (by omega) dX4_answer_31 hS (fun q h => Nat.le_trans hS.1 h) (fun v31 H locs hp31 hz9 hk9 hS => ?_)
      have hE9 := Ext.of hz9 hk9 (fun q h => h)
      obtain rfl : v31 = Value.int (iI AG) := by rw [← hA9]; exact hp31
      refine lv_iload_n hx hb dX4_answer_34 rfl (lv_at hl 0 rfl) ?_
      refine z_icmp_le cx (tgt := 40) dX4_answer_35 (by decide) (by omega) (fun c35 => ?_) (fun c35 => ?_)
      · exact l40 _  (Nat.lt_succ_self _) (by omega) _ _ _ _ _ hS  (by omega) (by omega) (lv_sub hl [1, 2, 3] rfl)
      · refine lv_iconst (v := iI (3)) hx hb dX4_answer_38 rfl ?_
        exact z_iret cx hQ rfl rfl (by rw [ans, if_neg e1, hA9, if_pos (by omega)]) hS (by omega) dX4_answer_39
  · have e1 : hasW v nNc = true := by cases h : hasW v nNc with | true => rfl | false => rw [h] at c8; exact absurd rfl c8
    refine lv_iconst (v := iI (3)) hx hb dX4_answer_11 rfl ?_
    exact z_iret cx hQ rfl rfl (by rw [ans, if_pos e1]) hS (by omega) dX4_answer_12
