/-! ===== the model's lists ===== -/
set_option maxHeartbeats 4000000 in
set_option maxRecDepth 100000 in
theorem m_X4_list (G : zE) (l : Launch) (H0 : Heap) (a : Nat) (v : List Int) (ha : Ai G H0 a 101 v) (hcx : chs v) (hn : v.length ≤ 40000) {mc ms : Nat} (hmc : v.length + 3 ≤ mc) (hms : 2 * v.length + 2 ≤ ms) : zR G l yX4_list (ws_ yX4_list cX4_list 6 (some (FieldType.array (FieldType.array FieldType.int)))) 1 26 mc ms [.ref a] H0 (fun r H1 => ∃ b : Nat, r = .ref b ∧ Rq G (Pur H0) H1 b ((lst v).map some)) (Pur H0) := by
  refine zR.start (cc := cX4_list) (by decide) (Nat.le_of_ble_eq_true rfl) ?_
  intro p e s m args below meth c Q cx hQ hmn ls hl
  have hx := cx.1
  have hb := cx.2.1
  have hS : va_S (Pur H0) H0 H0 [] := va_S.rf
  have hl : lv_has ls 6 [(0, .ref a)] := hl
  have lp2 : ∀ (fuel : Nat) (w pa rr x j : Nat) (rs : List (Option Nat)), (w - j) < fuel → (j ≤ w ∧ w ≤ 40001) → (rs.length = w) → (H0.size ≤ rr) → (pa ≠ rr) → ∀ (H : Heap) (locs : List Loc) (ls : Array Slot) (k n : Nat), va_S (Pur H0) H0 H locs → Aq G H pa 105 (rs ++ List.replicate x none) → Aq G H rr 105 (rs.take j ++ List.replicate (w - j) none) → (Ors G (fun q => H0.size ≤ q ∧ q ≠ rr) H rs ((lst v).map some)) → (k ≤ mc) → (n ≤ ms) → lv_has ls 6 [(0, .ref a), (1, .int (iI ↑w)), (2, .ref pa), (4, .ref rr), (5, .int (iI ↑j))] → W p l e ⟨1, mc, ms, 26⟩ s m args below meth c H locs k n Q (F0 m 81 ls []) := by
    intro fuel
    induction fuel with
    | zero => intro w pa rr x j rs hf9; exact absurd hf9 (Nat.not_lt_zero _)
    | succ fuel ih_lp2 =>
      intro w pa rr x j rs hf9 hj hw hpp hne H locs ls k n hS Apa Arr hO hr1 hr2 hl
      have hL1 : (rs ++ List.replicate x none).length = w + x := by rw [List.length_append, List.length_replicate, hw]
      have hL2 : (rs.take j ++ List.replicate (w - j) none).length = w := by rw [List.length_append, List.length_replicate, List.length_take]; omega
      refine lv_iload hx hb dX4_list_81 (lv_at hl 4 rfl) ?_
      refine lv_iload_n hx hb dX4_list_83 rfl (lv_at hl 1 rfl) ?_
      refine z_icmp_ge cx (tgt := 102) dX4_list_84 (by decide) (by omega) (fun c84 => ?_) (fun c84 => ?_)
      · rw [show j = w by omega, Nat.sub_self, List.replicate_zero, List.append_nil, ← hw, List.take_length] at Arr
        refine lv_aload hx hb dX4_list_102 (lv_at hl 3 rfl) ?_
        exact z_aret cx hQ rfl (Or.inr ⟨_, rfl⟩) (⟨rr, rfl, (hO.kp (Kp.weak (fun q _ h => h.1))).rq hpp Arr⟩) hS (by omega) dX4_list_104
      · refine lv_aload hx hb dX4_list_87 (lv_at hl 3 rfl) ?_
        refine lv_iload hx hb dX4_list_89 (lv_at hl 4 rfl) ?_
        refine lv_aload_n hx hb dX4_list_91 rfl (lv_at hl 2 rfl) ?_
        refine lv_iload hx hb dX4_list_92 (lv_at hl 4 rfl) ?_
        refine z_aald cx (t0 := 5) Apa rfl rfl (j) (by omega) dX4_list_94 (fun x94 hx94 => ?_)
        have hx1 : rs[j]? = some x94 := by rw [List.getElem?_append_left (by omega)] at hx94; exact hx94
        have hl9 : (lst v).length = w := by rw [← hw, hO.1, List.length_map]
        obtain ⟨y, hy⟩ : ∃ y, (lst v)[j]? = some y := ⟨_, List.getElem?_eq_getElem (by omega)⟩
        obtain ⟨b, rfl, hPb, hAb⟩ := (hO.2 j x94 (some y) hx1 (by rw [List.getElem?_map, hy]; rfl)).s
        refine z_aastR cx Arr hAb hpp hS (j) (by omega) dX4_list_95 (fun H locs Arr hz9 hq9 hS => ?_)
        have Apa := Apa.kept (hq9 _ hne)
        have hO := hO.kp (Kp.put hq9 (fun q h => h.2))
        have e2 : w - j = (w - (j + 1)) + 1 := by omega
        have e3 : rs.take (j + 1) = rs.take j ++ [some b] := by
          obtain ⟨h1, h2⟩ := List.getElem?_eq_some_iff.mp hx1
          rw [List.take_succ_eq_append_getElem h1, h2]
        rw [e2, fillq_set (by rw [List.length_take]; omega), ← e3] at Arr
        refine z_iinc cx (j := 4) (z := ((j + 1 : Nat) : Int)) (lv' := [(5, .int (iI ((j + 1 : Nat) : Int))), (0, .ref a), (1, .int (iI ↑w)), (2, .ref pa), (4, .ref rr)]) dX4_list_96 hl rfl (by omega) (by decide) rfl (fun ls hl => ?_)
        refine lv_goto (tgt := 81) hx hb dX4_list_99 (by decide) ?_
        exact ih_lp2 w pa rr x (j + 1) rs (by omega) (by omega) (by omega) (by omega) (by omega) _ _ _ _ _ hS Apa Arr hO (by omega) (by omega) (lv_sub hl [1, 2, 3, 4, 0] rfl)
  refine lv_iconst (v := iI (0)) hx hb dX4_list_0 rfl ?_
  refine lv_istore_n (lv' := [(1, .int (iI 0)), (0, .ref a)]) hx hb dX4_list_1 rfl hl (by decide) rfl (fun ls hl => ?_)
  refine lv_aload_n hx hb dX4_list_2 rfl (lv_at hl 1 rfl) ?_
  refine z_alen cx ha dX4_list_3 ?_
  refine lv_iconst (v := iI (1)) hx hb dX4_list_4 rfl ?_
  refine z_iadd cx (z := ((v.length + 1 : Nat) : Int)) dX4_list_5 (by omega) ?_
  refine z_newR cx hS q1242 (v.length + 1) (by omega) (by omega) dX4_list_6 (fun pa H hpa hgpa Apa hz9 hE9 hS => ?_)
  refine lv_astore_n (lv' := [(2, .ref pa), (1, .int (iI 0)), (0, .ref a)]) hx hb dX4_list_9 rfl hl (by decide) rfl (fun ls hl => ?_)
  refine lv_iconst (v := iI (0)) hx hb dX4_list_10 rfl ?_
  refine lv_istore_n (lv' := [(3, .int (iI 0)), (2, .ref pa), (1, .int (iI 0)), (0, .ref a)]) hx hb dX4_list_11 rfl hl (by decide) rfl (fun ls hl => ?_)
  refine lv_iconst (v := iI (0)) hx hb dX4_list_12 rfl ?_
  refine lv_istore (lv' := [(4, .int (iI 0)), (3, .int (iI 0)), (2, .ref pa), (1, .int (iI 0)), (0, .ref a)]) hx hb dX4_list_13 hl (by decide) rfl (fun ls hl => ?_)
  have lp1 : ∀ (fuel : Nat) (pa u g w : Nat) (rs : List (Option Nat)) (dn : List (List Int)), (v.length + 1 - g) < fuel → (u ≤ g ∧ g ≤ v.length + 1 ∧ (g ≤ v.length ∨ u = g)) → (∀ c ∈ sl v u g, c ≠ 44) → (lst v = dn ++ lst (v.drop u)) → (H0.size ≤ pa) → (rs.length = w ∧ w ≤ u) → ∀ (H : Heap) (locs : List Loc) (ls : Array Slot) (k n : Nat), va_S (Pur H0) H0 H locs → Aq G H pa 105 (rs ++ List.replicate (v.length + 1 - w) none) → (Ors G (fun q => H0.size ≤ q ∧ q ≠ pa) H rs (dn.map some)) → (k + (v.length + 1 - g) + 1 ≤ mc) → (n + w + (v.length + 1 - u) ≤ ms) → lv_has ls 6 [(0, .ref a), (1, .int (iI ↑w)), (2, .ref pa), (3, .int (iI ↑u)), (4, .int (iI ↑g))] → W p l e ⟨1, mc, ms, 26⟩ s m args below meth c H locs k n Q (F0 m 15 ls []) := by
    intro fuel
    induction fuel with
    | zero => intro pa u g w rs dn hf9; exact absurd hf9 (Nat.not_lt_zero _)
    | succ fuel ih_lp1 =>
      intro pa u g w rs dn hf9 hk hnc hd hpa hw H locs ls k n hS Apa hO hr1 hr2 hl
      have l38 : ∀ (fuel : Nat) , 0 < fuel → (g ≤ v.length) → (lst (v.drop u) = on1 (trim (sl v u g)) ++ lst (v.drop (g + 1))) → ∀ (H : Heap) (locs : List Loc) (ls : Array Slot) (k n : Nat), va_S (Pur H0) H0 H locs → Aq G H pa 105 (rs ++ List.replicate (v.length + 1 - w) none) → (Ors G (fun q => H0.size ≤ q ∧ q ≠ pa) H rs (dn.map some)) → (k + (v.length + 1 - g) + 1 ≤ mc) → (n + w + (v.length + 1 - u) ≤ ms) → lv_has ls 6 [(0, .ref a), (1, .int (iI ↑w)), (2, .ref pa), (3, .int (iI ↑u)), (4, .int (iI ↑g))] → W p l e ⟨1, mc, ms, 26⟩ s m args below meth c H locs k n Q (F0 m 38 ls []) := by
        intro fuel
        induction fuel with
        | zero => intro  hf9; exact absurd hf9 (Nat.not_lt_zero _)
        | succ fuel ih_l38 =>
          intro  hf9 hg hseg H locs ls k n hS Apa hO hr1 hr2 hl
          have hL1 : (rs ++ List.replicate (v.length + 1 - w) none).length = v.length + 1 := by rw [List.length_append, List.length_replicate]; omega
          have htl : (trim (sl v u g)).length ≤ g - u := Nat.le_trans (trim_len _) (sl_len_le _ _ _)
          have hs9 := hS.1
          have hlt := Apa.lt
          refine lv_aload_n hx hb dX4_list_38 rfl (lv_at hl 0 rfl) ?_
          refine lv_iload_n hx hb dX4_list_39 rfl (lv_at hl 3 rfl) ?_
          refine lv_iload hx hb dX4_list_40 (lv_at hl 4 rfl) ?_
          refine z_callS cx (j := 3) (m_X4_trimmed G l _ a v u g (ha.ext (Ext.ofS hS)) hcx (by omega) (mc := 1) (ms := (trim (sl v u g)).length) (Nat.le_refl _) (Nat.le_refl _)) (lw_S q1226 q1227 q57 q1228) (by decide +kernel) rfl (rest := []) rfl hl (Nat.le_of_ble_eq_true rfl) (by decide) (by omega) dX4_list_42 hS (fun q h => Nat.le_trans hS.1 h) (fun v42 H locs hp42 hz9 hk9 hS => ?_)
          have hE9 := Ext.of hz9 hk9 (fun q h => h)
          obtain ⟨b, rfl, hgb, Ab⟩ := hp42
          have Apa := Apa.ext hE9
          have hO := hO.kp (Kp.ext hE9)
          have hbp : b ≠ pa := by omega
          refine lv_astore (lv' := [(5, .ref b), (0, .ref a), (1, .int (iI ↑w)), (2, .ref pa), (3, .int (iI ↑u)), (4, .int (iI ↑g))]) hx hb dX4_list_45 hl (by decide) rfl (fun ls hl => ?_)
          refine lv_aload hx hb dX4_list_47 (lv_at hl 0 rfl) ?_
          refine z_alen cx Ab dX4_list_49 ?_
          refine z_if_le cx (tgt := 61) dX4_list_50 (by decide) (by omega) (fun c50 => ?_) (fun c50 => ?_)
          · have e1 : trim (sl v u g) = [] := List.eq_nil_of_length_eq_zero (by omega)
            rw [e1] at hseg
            refine lv_iload hx hb dX4_list_61 (lv_at hl 5 rfl) ?_
            refine lv_iconst (v := iI (1)) hx hb dX4_list_63 rfl ?_
            refine z_iadd cx (z := ((g + 1 : Nat) : Int)) dX4_list_64 (by omega) ?_
            refine lv_istore_n (lv' := [(3, .int (iI ((g + 1 : Nat) : Int))), (5, .ref b), (0, .ref a), (1, .int (iI ↑w)), (2, .ref pa), (4, .int (iI ↑g))]) hx hb dX4_list_65 rfl hl (by decide) rfl (fun ls hl => ?_)
            refine z_iinc cx (j := 5) (z := ((g + 1 : Nat) : Int)) (lv' := [(4, .int (iI ((g + 1 : Nat) : Int))), (3, .int (iI ((g + 1 : Nat) : Int))), (5, .ref b), (0, .ref a), (1, .int (iI ↑w)), (2, .ref pa)]) dX4_list_66 hl rfl (by omega) (by decide) rfl (fun ls hl => ?_)
            refine lv_goto (tgt := 15) hx hb dX4_list_69 (by decide) ?_
            exact ih_lp1 pa (g + 1) (g + 1) w rs dn (by omega) (by omega) (by rw [sl_nil (Nat.le_refl _)]; intro c h; cases h) (by rw [hd, hseg]; rfl) hpa (by omega) _ _ _ _ _ hS Apa hO (by omega) (by omega) (lv_sub hl [3, 4, 5, 1, 0] rfl)
          · have e1 : trim (sl v u g) ≠ [] := fun h => by rw [h] at c50; exact absurd c50 (by decide)
            refine lv_aload_n hx hb dX4_list_53 rfl (lv_at hl 3 rfl) ?_
            refine lv_iload_n hx hb dX4_list_54 rfl (lv_at hl 2 rfl) ?_
            refine lv_aload hx hb dX4_list_55 (lv_at hl 0 rfl) ?_
            refine z_aastR cx Apa Ab hpa hS (w) (by omega) dX4_list_57 (fun H locs Apa hz9 hq9 hS => ?_)
            have Ab := Ab.kept (hq9 _ hbp)
            have hO := hO.kp (Kp.put hq9 (fun q h => h.2))
            have hO := hO.snoc (r := some b) (v := some (trim (sl v u g))) ⟨⟨by omega, hbp⟩, Ab⟩
            have e2 : v.length + 1 - w = (v.length + 1 - (w + 1)) + 1 := by omega
            rw [e2, fillq_set hw.1.symm] at Apa
            refine z_iinc cx (j := 2) (z := ((w + 1 : Nat) : Int)) (lv' := [(1, .int (iI ((w + 1 : Nat) : Int))), (5, .ref b), (0, .ref a), (2, .ref pa), (3, .int (iI ↑u)), (4, .int (iI ↑g))]) dX4_list_58 hl rfl (by omega) (by decide) rfl (fun ls hl => ?_)
            refine lv_iload hx hb dX4_list_61 (lv_at hl 5 rfl) ?_
            refine lv_iconst (v := iI (1)) hx hb dX4_list_63 rfl ?_
            refine z_iadd cx (z := ((g + 1 : Nat) : Int)) dX4_list_64 (by omega) ?_
            refine lv_istore_n (lv' := [(3, .int (iI ((g + 1 : Nat) : Int))), (1, .int (iI ((w + 1 : Nat) : Int))), (5, .ref b), (0, .ref a), (2, .ref pa), (4, .int (iI ↑g))]) hx hb dX4_list_65 rfl hl (by decide) rfl (fun ls hl => ?_)
            refine z_iinc cx (j := 5) (z := ((g + 1 : Nat) : Int)) (lv' := [(4, .int (iI ((g + 1 : Nat) : Int))), (3, .int (iI ((g + 1 : Nat) : Int))), (1, .int (iI ((w + 1 : Nat) : Int))), (5, .ref b), (0, .ref a), (2, .ref pa)]) dX4_list_66 hl rfl (by omega) (by decide) rfl (fun ls hl => ?_)
            refine lv_goto (tgt := 15) hx hb dX4_list_69 (by decide) ?_
            exact ih_lp1 pa (g + 1) (g + 1) (w + 1) (rs ++ [some b]) (dn ++ [trim (sl v u g)]) (by omega) (by omega) (by rw [sl_nil (Nat.le_refl _)]; intro c h; cases h) (by rw [hd, hseg, on1, if_neg e1, List.append_assoc]) hpa ⟨by rw [List.length_append, hw.1]; rfl, by omega⟩ _ _ _ _ _ hS Apa (by rw [List.map_append]; exact hO) (by omega) (by omega) (lv_sub hl [4, 2, 5, 1, 0] rfl)
      refine lv_iload hx hb dX4_list_15 (lv_at hl 4 rfl) ?_
      refine lv_aload_n hx hb dX4_list_17 rfl (lv_at hl 0 rfl) ?_
      refine z_alen cx (ha.ext (Ext.ofS hS)) dX4_list_18 ?_
      refine z_icmp_gt cx (tgt := 72) dX4_list_19 (by decide) (by omega) (fun c19 => ?_) (fun c19 => ?_)
      · have e9 : lst v = dn := by rw [hd, List.drop_eq_nil_of_le (by omega), lst_nil, List.append_nil]
        have hl9 := lst_sum v
        rw [e9] at hl9
        have hw2 : dn.length = w := by rw [← hw.1, hO.1, List.length_map]
        have hlt := Apa.lt
        refine lv_iload_n hx hb dX4_list_72 rfl (lv_at hl 1 rfl) ?_
        refine z_newR cx hS q1242 (w) (by omega) (by omega) dX4_list_73 (fun rr H hrr hgrr Arr hz9 hE9 hS => ?_)
        have Apa := Apa.ext hE9
        refine lv_astore (lv' := [(4, .ref rr), (0, .ref a), (1, .int (iI ↑w)), (2, .ref pa), (3, .int (iI ↑u))]) hx hb dX4_list_76 hl (by decide) rfl (fun ls hl => ?_)
        refine lv_iconst (v := iI (0)) hx hb dX4_list_78 rfl ?_
        refine lv_istore (lv' := [(5, .int (iI 0)), (4, .ref rr), (0, .ref a), (1, .int (iI ↑w)), (2, .ref pa), (3, .int (iI ↑u))]) hx hb dX4_list_79 hl (by decide) rfl (fun ls hl => ?_)
        have hO := hO.kp (P' := fun q => H0.size ≤ q ∧ q ≠ rr) (fun q hq h => ⟨⟨h.1, by omega⟩, hE9.2 q hq⟩)
        exact lp2 _ w pa rr (v.length + 1 - w) 0 rs (Nat.lt_succ_self _) (by omega) hw.1 hgrr (by omega) _ _ _ _ _ hS Apa (by rw [List.take_zero, List.nil_append]; exact Arr) (by rw [e9]; exact hO) (by omega) (by omega) (lv_sub hl [2, 3, 4, 1, 0] rfl)
      · refine lv_iload hx hb dX4_list_22 (lv_at hl 4 rfl) ?_
        refine lv_aload_n hx hb dX4_list_24 rfl (lv_at hl 0 rfl) ?_
        refine z_alen cx (ha.ext (Ext.ofS hS)) dX4_list_25 ?_
        refine z_icmp_eq cx (tgt := 38) dX4_list_26 (by decide) (by omega) (fun c26 => ?_) (fun c26 => ?_)
        · have e1 : g = v.length := by omega
          exact l38 _  (Nat.lt_succ_self _) (by omega) (by rw [e1] at hnc ⊢; exact lst_end hnc) _ _ _ _ _ hS Apa hO (by omega) (by omega) (lv_sub hl [0, 1, 2, 3, 4] rfl)
        · refine lv_aload_n hx hb dX4_list_29 rfl (lv_at hl 0 rfl) ?_
          refine lv_iload hx hb dX4_list_30 (lv_at hl 4 rfl) ?_
          refine z_iald cx (ha.ext (Ext.ofS hS)) (g) (by omega) dX4_list_32 (fun x32 hx32 => ?_)
          have bx32 := hcx _ (List.mem_of_getElem? hx32)
          refine lv_bipush (v := iI (44)) hx hb dX4_list_33 (by decide) ?_
          refine z_icmp_ne cx (tgt := 66) dX4_list_35 (by decide) (by omega) (fun c35 => ?_) (fun c35 => ?_)
          · refine z_iinc cx (j := 4) (z := ((g + 1 : Nat) : Int)) (lv' := [(4, .int (iI ((g + 1 : Nat) : Int))), (0, .ref a), (1, .int (iI ↑w)), (2, .ref pa), (3, .int (iI ↑u))]) dX4_list_66 hl rfl (by omega) (by decide) rfl (fun ls hl => ?_)
            refine lv_goto (tgt := 15) hx hb dX4_list_69 (by decide) ?_
            exact ih_lp1 pa u (g + 1) w rs dn (by omega) (by omega) (by rw [sl_snoc hx32 (by omega)]; intro c h; rcases List.mem_append.mp h with q | q; exact hnc c q; rw [List.mem_singleton.mp q]; exact c35) hd hpa (by omega) _ _ _ _ _ hS Apa hO (by omega) (by omega) (lv_sub hl [1, 2, 3, 4, 0] rfl)
          · rw [c35] at hx32
            exact l38 _  (Nat.lt_succ_self _) (by omega) (lst_step hx32 (by omega) hnc) _ _ _ _ _ hS Apa hO (by omega) (by omega) (lv_sub hl [0, 1, 2, 3, 4] rfl)
  exact lp1 _ pa 0 0 0 [] [] (Nat.lt_succ_self _) (by omega) (by rw [sl_nil (Nat.le_refl _)]; intro c h; cases h) rfl hgpa ⟨rfl, by omega⟩ _ _ _ _ _ hS Apa Ors.nil (by omega) (by omega) (lv_sub hl [4, 3, 2, 1, 0] rfl)
