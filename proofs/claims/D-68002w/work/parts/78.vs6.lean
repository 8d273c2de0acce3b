/-! ===== the component: Headers ===== -/
set_option maxHeartbeats 4000000 in
set_option maxRecDepth 100000 in
theorem m_X2_init (G : zE) (l : Launch) (H0 : Heap) (h : Nat) (hB : Bh G H0) (hhb : G.2.heap.size ≤ h) (hh : Ob G H0 h 1 [.null]) {mc ms : Nat} (hmc : 1 ≤ mc) (hms : 3 ≤ ms) : zV G l yX2_init (ws_ yX2_init cX2_init 1 (none)) 4 80 mc ms [.ref h] H0 (fun H1 => ∃ L : Nat, H0.size ≤ L ∧ Ob G H1 h 1 [.ref L] ∧ Ob G H1 L 8 [.int (iI 0), .ref (e0 G), .int (iI 0)]) (fun q => H0.size ≤ q ∨ q = h) := by
  refine zV.start (cc := cX2_init) (by decide) (Nat.le_of_ble_eq_true rfl) ?_
  intro p e s m args below meth c Q cx hQ hmn ls hl
  have hx := cx.1
  have hb := cx.2.1
  have hS : va_S (fun q => H0.size ≤ q ∨ q = h) H0 H0 [] := va_S.rf
  have hl : lv_has ls 1 [(0, .ref h)] := hl
  have hB9 := hB.1
  have hBA : ∀ q, (H0.size ≤ q ∨ q = h) → G.2.heap.size ≤ q := fun q z => by rcases z with z | z; omega; omega
  have hhl := hh.lt
  refine lv_aload_n hx hb dX2_init_0 rfl (lv_at hl 0 rfl) ?_
  refine z_obj cx q107 q70 q71 hl (Nat.le_of_ble_eq_true rfl) (by decide) dX2_init_1 ?_
  refine lv_aload_n hx hb dX2_init_4 rfl (lv_at hl 0 rfl) ?_
  refine z_new cx (ci := 8) (vs := [.int (iI 0), .null, .int (iI 0)]) hS rfl in_J2 tyJ2_ok q108 q73 q35 (zdefJ2) (by omega) dX2_init_5 (fun L H hL hgL AL hz9 hE9 hS => ?_)
  have hh := hh.ext hE9
  refine lv_dup hx hb dX2_init_8 rfl ?_
  have h8 := hh
  have hLh : L ≠ h := by omega
  refine z_callI cx (j := 0) (m_J2_init G l _ L (.int (iI 0)) .null (.int (iI 0)) (hB.ofS hS hBA) (by omega) AL (mc := 0) (ms := 0)) (lw_meth q76) q35 q109 q75 rfl (by decide +kernel) rfl (rest := [.ref L, .ref h]) rfl hl (Nat.le_of_ble_eq_true rfl) (by decide) (by omega) dX2_init_9 hS (fun q h => by rcases h with h | h; exact Or.inl (Nat.le_trans hS.1 h); exact Or.inl (by omega)) (fun H locs hp9 hz9 hk9 hS => ?_)
  have hL := hp9
  have hh := h8.kept (hk9 h h8.lt (by rintro (z | z); exact absurd h8.lt (Nat.not_lt.mpr z); exact hLh z.symm))
  refine z_putF cx hmn (k0 := 0) (vs' := [.ref L]) hh (Or.inr rfl) hS rfl in_X2 tyX2_ok nmX2 (by decide) q110 rfl rfl rfl rfl (Nat.le_of_ble_eq_true rfl) ⟨rfl, rfl⟩ dX2_init_12 (fun H locs hh hz9 hq9 hS => ?_)
  have hL := hL.kept (hq9 _ hLh)
  exact z_vret cx hQ rfl (⟨L, hgL, hh, hL⟩) hS (by omega) dX2_init_15
set_option maxHeartbeats 4000000 in
set_option maxRecDepth 100000 in
theorem m_X2_line (G : zE) (l : Launch) (H0 : Heap) (Pq P' : Nat → Prop) (h L ed cap y : Nat) (u0 : Value) (rs : List Nat) (T : Txt) (cs : List Bool) (ys : List Int) (hB : Bh G H0) (hh : Ob G H0 h 1 [.ref L]) (hL : Ob G H0 L 8 [u0, .ref ed, .int (iI (rs.length : Int))]) (hed : EDok G H0 ed rs cap) (hN : LnB G Pq H0 rs T cs) (hn : T.length ≤ 30000) (hy : St G P' H0 y ys) {mc ms : Nat}  : zR G l yX2_line (ws_ yX2_line cX2_line 3 (some (FieldType.object "VaryStore$Line"))) 3 64 mc ms [.ref h, .ref y] H0 (fun r _ => (r = .null ∧ hdF T ys = -1) ∨ ∃ k : Nat, hdF T ys = (k : Int) ∧ k < rs.length ∧ r = .ref (rs.getD k 0)) (Pur H0) := by
  refine zR.start (cc := cX2_line) (by decide) (Nat.le_of_ble_eq_true rfl) ?_
  intro p e s m args below meth c Q cx hQ hmn ls hl
  have hx := cx.1
  have hb := cx.2.1
  have hS : va_S (Pur H0) H0 H0 [] := va_S.rf
  have hl : lv_has ls 3 [(0, .ref h), (1, .ref y)] := hl
  have hlen := hN.1
  refine lv_iconst (v := iI (0)) hx hb dX2_line_0 rfl ?_
  refine lv_istore_n (lv' := [(2, .int (iI 0)), (0, .ref h), (1, .ref y)]) hx hb dX2_line_1 rfl hl (by decide) rfl (fun ls hl => ?_)
  have lp : ∀ (fuel : Nat) (j : Nat), (rs.length - j) < fuel → (j ≤ rs.length) → (hdF T ys = fix1 (fun l => decide (l.1 = ys)) (T.drop j) j) → ∀ (H : Heap) (locs : List Loc) (ls : Array Slot) (k n : Nat), va_S (Pur H0) H0 H locs → (k ≤ mc) → (n ≤ ms) → lv_has ls 3 [(0, .ref h), (1, .ref y), (2, .int (iI ↑j))] → W p l e ⟨3, mc, ms, 64⟩ s m args below meth c H locs k n Q (F0 m 2 ls []) := by
    intro fuel
    induction fuel with
    | zero => intro j hf9; exact absurd hf9 (Nat.not_lt_zero _)
    | succ fuel ih_lp =>
      intro j hf9 hj he H locs ls k n hS  hr1 hr2 hl
      refine lv_iload_n hx hb dX2_line_2 rfl (lv_at hl 2 rfl) ?_
      refine lv_aload_n hx hb dX2_line_3 rfl (lv_at hl 0 rfl) ?_
      refine z_get cx (k0 := 0) (hh.ext (Ext.ofS hS)) rfl in_X2 (by decide) q110 rfl rfl dX2_line_4 ?_
      refine z_callV cx (j := 0) (m_J2_size G l _ L (rs.length : Int) u0 (.ref ed) (hL.ext (Ext.ofS hS)) (mc := 0) (ms := 0)) (lw_V q751 q546 q547 q35 q548) (zrecv cx (hL.ext (Ext.ofS hS)) rfl) (by decide +kernel) rfl (rest := [.int (iI ↑j)]) rfl hl (Nat.le_of_ble_eq_true rfl) (by decide) (by omega) dX2_line_7 hS (fun q h => Nat.le_trans hS.1 h) (fun v7 H locs hp7 hz9 hk9 hS => ?_)
      have hE9 := Ext.of hz9 hk9 (fun q h => h)
      subst hp7
      refine z_icmp_ge cx (tgt := 52) dX2_line_10 (by decide) (by omega) (fun c10 => ?_) (fun c10 => ?_)
      · rw [List.drop_eq_nil_of_le (show T.length ≤ j by omega)] at he
        refine lv_null hx hb dX2_line_52 ?_
        exact z_nret cx hQ rfl (Or.inl ⟨_, rfl⟩) (Or.inl ⟨rfl, he⟩) hS (by omega) dX2_line_53
      · obtain ⟨w9, hw9⟩ : ∃ w, rs[j]? = some w := ⟨_, List.getElem?_eq_getElem (by omega)⟩
        obtain ⟨t9, c9, ht9, hc9, nm9, vl9, li9, hOw, hnm, -⟩ := hN.at hw9
        have hnm8 := hnm
        obtain ⟨-, -, -, b9, -, hs9, -⟩ := hnm8
        have hgd : rs.getD j 0 = w9 := by rw [List.getD_eq_getElem?_getD, hw9]; rfl
        rw [drop_s ht9, fix1] at he
        refine lv_aload_n hx hb dX2_line_13 rfl (lv_at hl 0 rfl) ?_
        refine z_get cx (k0 := 0) (hh.ext (Ext.ofS hS)) rfl in_X2 (by decide) q110 rfl rfl dX2_line_14 ?_
        refine lv_iload_n hx hb dX2_line_17 rfl (lv_at hl 2 rfl) ?_
        refine z_callV cx (j := 1) (m_J2_get G l _ L ed j cap rs u0 (hL.ext (Ext.ofS hS)) (hed.ext (Ext.ofS hS)) ⟨by omega, by omega⟩ (mc := 0) (ms := 0)) (lw_V q752 q550 q551 q35 q552) (zrecv cx (hL.ext (Ext.ofS hS)) rfl) (by decide +kernel) rfl (rest := []) rfl hl (Nat.le_of_ble_eq_true rfl) (by decide) (by omega) dX2_line_18 hS (fun q h => Nat.le_trans hS.1 h) (fun v18 H locs hp18 hz9 hk9 hS => ?_)
        have hE9 := Ext.of hz9 hk9 (fun q h => h)
        subst hp18
        rw [hgd]
        refine va_castE hx hb cx.wn (cx.ts _ q753) (zrecv cx (hOw.ext (Ext.ofS hS)) rfl) dX2_line_21 ?_
        refine z_getN cx (k0 := 0) (hOw.ext (Ext.ofS hS)) rfl in_X6 (by decide) q761 rfl rfl dX2_line_24 ?_
        refine lv_aload_n hx hb dX2_line_27 rfl (lv_at hl 1 rfl) ?_
        refine z_callV cx (j := 1) (m_J5_equals G l _ Pq P' nm9 y t9.1 ys (hB.ext (Ext.ofS hS)) (hnm.ext (Ext.ofS hS)) (hy.ext (Ext.ofS hS)) (mc := 0) (ms := 0)) (lw_V q754 q628 q629 q40 q630) (zrecvS cx (hs9.ext (Ext.ofS hS))) (by decide +kernel) rfl (rest := []) rfl hl (Nat.le_of_ble_eq_true rfl) (by decide) (by omega) dX2_line_28 hS (fun q h => Nat.le_trans hS.1 h) (fun v28 H locs hp28 hz9 hk9 hS => ?_)
        have hE9 := Ext.of hz9 hk9 (fun q h => h)
        have hb28 := b2i_rg (decide (t9.1 = ys))
        subst hp28
        refine z_if_eq cx (tgt := 46) dX2_line_31 (by decide) (by omega) (fun c31 => ?_) (fun c31 => ?_)
        · have hne := b2i_F c31
          rw [if_neg (by rw [decide_eq_false hne]; exact Bool.false_ne_true)] at he
          refine z_iinc cx (j := 2) (z := ((j + 1 : Nat) : Int)) (lv' := [(2, .int (iI ((j + 1 : Nat) : Int))), (0, .ref h), (1, .ref y)]) dX2_line_46 hl rfl (by omega) (by decide) rfl (fun ls hl => ?_)
          refine lv_goto (tgt := 2) hx hb dX2_line_49 (by decide) ?_
          exact ih_lp (j + 1) (by omega) (by omega) he _ _ _ _ _ hS  (by omega) (by omega) (lv_sub hl [1, 2, 0] rfl)
        · have heq := b2i_T c31
          rw [if_pos (decide_eq_true heq)] at he
          refine lv_aload_n hx hb dX2_line_34 rfl (lv_at hl 0 rfl) ?_
          refine z_get cx (k0 := 0) (hh.ext (Ext.ofS hS)) rfl in_X2 (by decide) q110 rfl rfl dX2_line_35 ?_
          refine lv_iload_n hx hb dX2_line_38 rfl (lv_at hl 2 rfl) ?_
          refine z_callV cx (j := 1) (m_J2_get G l _ L ed j cap rs u0 (hL.ext (Ext.ofS hS)) (hed.ext (Ext.ofS hS)) ⟨by omega, by omega⟩ (mc := 0) (ms := 0)) (lw_V q752 q550 q551 q35 q552) (zrecv cx (hL.ext (Ext.ofS hS)) rfl) (by decide +kernel) rfl (rest := []) rfl hl (Nat.le_of_ble_eq_true rfl) (by decide) (by omega) dX2_line_39 hS (fun q h => Nat.le_trans hS.1 h) (fun v39 H locs hp39 hz9 hk9 hS => ?_)
          have hE9 := Ext.of hz9 hk9 (fun q h => h)
          subst hp39
          rw [hgd]
          refine va_castE hx hb cx.wn (cx.ts _ q753) (zrecv cx (hOw.ext (Ext.ofS hS)) rfl) dX2_line_42 ?_
          exact z_aret cx hQ rfl (Or.inl ⟨_, rfl⟩) (Or.inr ⟨j, he, by omega, by rw [hgd]⟩) hS (by omega) dX2_line_45
  exact lp _ 0 (Nat.lt_succ_self _) (Nat.zero_le _) (by rw [List.drop_zero]; rfl) _ _ _ _ _ hS  (by omega) (by omega) (lv_sub hl [1, 2, 0] rfl)
set_option maxHeartbeats 4000000 in
set_option maxRecDepth 100000 in
theorem m_X2_has (G : zE) (l : Launch) (H0 : Heap) (Pq P' : Nat → Prop) (h L ed cap y : Nat) (u0 : Value) (rs : List Nat) (T : Txt) (cs : List Bool) (ys : List Int) (hB : Bh G H0) (hh : Ob G H0 h 1 [.ref L]) (hL : Ob G H0 L 8 [u0, .ref ed, .int (iI (rs.length : Int))]) (hed : EDok G H0 ed rs cap) (hN : LnB G Pq H0 rs T cs) (hn : T.length ≤ 30000) (hy : St G P' H0 y ys) {mc ms : Nat}  : zR G l yX2_has (ws_ yX2_has cX2_has 2 (some FieldType.boolean)) 4 86 mc ms [.ref h, .ref y] H0 (fun r _ => r = .int (iI (b2i (decide (hdV T ys ≠ none))))) (Pur H0) := by
  refine zR.start (cc := cX2_has) (by decide) (Nat.le_of_ble_eq_true rfl) ?_
  intro p e s m args below meth c Q cx hQ hmn ls hl
  have hx := cx.1
  have hb := cx.2.1
  have hS : va_S (Pur H0) H0 H0 [] := va_S.rf
  have hl : lv_has ls 2 [(0, .ref h), (1, .ref y)] := hl
  refine lv_aload_n hx hb dX2_has_0 rfl (lv_at hl 0 rfl) ?_
  refine lv_aload_n hx hb dX2_has_1 rfl (lv_at hl 1 rfl) ?_
  refine z_callV cx (j := 1) (m_X2_line G l _ Pq P' h L ed cap y u0 rs T cs ys (hB.ext (Ext.ofS hS)) (hh.ext (Ext.ofS hS)) (hL.ext (Ext.ofS hS)) (hed.ext (Ext.ofS hS)) (hN.ext (Ext.ofS hS)) hn (hy.ext (Ext.ofS hS)) (mc := 0) (ms := 0)) (lw_V q747 q749 qs10 q36 q750) (zrecv cx hh rfl) (by decide +kernel) rfl (rest := []) rfl hl (Nat.le_of_ble_eq_true rfl) (by decide) (by omega) dX2_has_2 hS (fun q h => Nat.le_trans hS.1 h) (fun v2 H locs hp2 hz9 hk9 hS => ?_)
  have hE9 := Ext.of hz9 hk9 (fun q h => h)
  skip
  rcases hp2 with ⟨rfl, hF⟩ | ⟨k9, hF, hkl, rfl⟩
  · refine lv_ifnullN (tgt := 12) hx hb dX2_has_5 (by decide) ?_
    refine lv_iconst (v := iI (0)) hx hb dX2_has_12 rfl ?_
    exact z_iret cx hQ rfl rfl (by rw [hdV, if_pos hF]; rfl) hS (by omega) dX2_has_13
  · refine lv_ifnull hx hb dX2_has_5 ?_
    refine lv_iconst (v := iI (1)) hx hb dX2_has_8 rfl ?_
    refine lv_goto (tgt := 13) hx hb dX2_has_9 (by decide) ?_
    exact z_iret cx hQ rfl rfl (by rw [hdV, if_neg (by omega)]; rfl) hS (by omega) dX2_has_13
set_option maxHeartbeats 4000000 in
set_option maxRecDepth 100000 in
theorem m_X2_value (G : zE) (l : Launch) (H0 : Heap) (Pq P' : Nat → Prop) (h L ed cap y : Nat) (u0 : Value) (rs : List Nat) (T : Txt) (cs : List Bool) (ys : List Int) (hB : Bh G H0) (hh : Ob G H0 h 1 [.ref L]) (hL : Ob G H0 L 8 [u0, .ref ed, .int (iI (rs.length : Int))]) (hed : EDok G H0 ed rs cap) (hN : LnB G Pq H0 rs T cs) (hn : T.length ≤ 30000) (hy : St G P' H0 y ys) {mc ms : Nat}  : zR G l yX2_value (ws_ yX2_value cX2_value 3 (some (FieldType.object "java/lang/String"))) 4 86 mc ms [.ref h, .ref y] H0 (fun r H1 => ∃ o : Option Nat, r = va_rf o ∧ Os G Pq H1 o (hdV T ys)) (Pur H0) := by
  refine zR.start (cc := cX2_value) (by decide) (Nat.le_of_ble_eq_true rfl) ?_
  intro p e s m args below meth c Q cx hQ hmn ls hl
  have hx := cx.1
  have hb := cx.2.1
  have hS : va_S (Pur H0) H0 H0 [] := va_S.rf
  have hl : lv_has ls 3 [(0, .ref h), (1, .ref y)] := hl
  refine lv_aload_n hx hb dX2_value_0 rfl (lv_at hl 0 rfl) ?_
  refine lv_aload_n hx hb dX2_value_1 rfl (lv_at hl 1 rfl) ?_
  refine z_callV cx (j := 1) (m_X2_line G l _ Pq P' h L ed cap y u0 rs T cs ys (hB.ext (Ext.ofS hS)) (hh.ext (Ext.ofS hS)) (hL.ext (Ext.ofS hS)) (hed.ext (Ext.ofS hS)) (hN.ext (Ext.ofS hS)) hn (hy.ext (Ext.ofS hS)) (mc := 0) (ms := 0)) (lw_V q747 q749 qs10 q36 q750) (zrecv cx hh rfl) (by decide +kernel) rfl (rest := []) rfl hl (Nat.le_of_ble_eq_true rfl) (by decide) (by omega) dX2_value_2 hS (fun q h => Nat.le_trans hS.1 h) (fun v2 H locs hp2 hz9 hk9 hS => ?_)
  have hE9 := Ext.of hz9 hk9 (fun q h => h)
  skip
  rcases hp2 with ⟨rfl, hF⟩ | ⟨k9, hF, hkl, rfl⟩
  · refine lv_astore_nN (lv' := [(2, .null), (0, .ref h), (1, .ref y)]) hx hb dX2_value_5 rfl hl (by decide) rfl (fun ls hl => ?_)
    refine lv_aload_nN hx hb dX2_value_6 rfl (lv_at hl 0 rfl) ?_
    refine lv_ifnonnullN hx hb dX2_value_7 ?_
    refine lv_null hx hb dX2_value_10 ?_
    refine lv_goto (tgt := 18) hx hb dX2_value_11 (by decide) ?_
    exact z_nret cx hQ rfl (Or.inl ⟨_, rfl⟩) (⟨none, rfl, by rw [hdV, if_pos hF]; exact trivial⟩) hS (by omega) dX2_value_18
  · obtain ⟨w9, hw9⟩ : ∃ w, rs[k9]? = some w := ⟨_, List.getElem?_eq_getElem hkl⟩
    obtain ⟨t9, c9, ht9, hc9, nm9, vl9, li9, hOw, hnm, hvl, -⟩ := hN.at hw9
    have hgd : rs.getD k9 0 = w9 := by rw [List.getD_eq_getElem?_getD, hw9]; rfl
    rw [hgd]
    refine lv_astore_n (lv' := [(2, .ref w9), (0, .ref h), (1, .ref y)]) hx hb dX2_value_5 rfl hl (by decide) rfl (fun ls hl => ?_)
    refine lv_aload_n hx hb dX2_value_6 rfl (lv_at hl 0 rfl) ?_
    refine lv_ifnonnull (tgt := 14) hx hb dX2_value_7 (by decide) ?_
    refine lv_aload_n hx hb dX2_value_14 rfl (lv_at hl 0 rfl) ?_
    refine z_getN cx (k0 := 1) (hOw.ext (Ext.ofS hS)) rfl in_X6 (by decide) q763 rfl rfl dX2_value_15 ?_
    exact z_aret cx hQ rfl (Or.inl ⟨_, rfl⟩) (⟨some vl9, rfl, by rw [hdV_k hF ht9]; exact hvl.ext (Ext.ofS hS)⟩) hS (by omega) dX2_value_18
set_option maxHeartbeats 4000000 in
set_option maxRecDepth 100000 in
theorem m_X2_seconds (G : zE) (l : Launch) (H0 : Heap) (Pq P' : Nat → Prop) (h L ed cap y : Nat) (u0 : Value) (rs : List Nat) (T : Txt) (cs : List Bool) (ys : List Int) (hB : Bh G H0) (hh : Ob G H0 h 1 [.ref L]) (hL : Ob G H0 L 8 [u0, .ref ed, .int (iI (rs.length : Int))]) (hed : EDok G H0 ed rs cap) (hN : LnB G Pq H0 rs T cs) (hn : T.length ≤ 30000) (hy : St G P' H0 y ys) {mc ms : Nat}  : zR G l yX2_seconds (ws_ yX2_seconds cX2_seconds 2 (some FieldType.int)) 5 108 mc ms [.ref h, .ref y] H0 (fun r _ => r = .int (iI (secO (hdV T ys)))) (Pur H0) := by
  refine zR.start (cc := cX2_seconds) (by decide) (Nat.le_of_ble_eq_true rfl) ?_
  intro p e s m args below meth c Q cx hQ hmn ls hl
  have hx := cx.1
  have hb := cx.2.1
  have hS : va_S (Pur H0) H0 H0 [] := va_S.rf
  have hl : lv_has ls 2 [(0, .ref h), (1, .ref y)] := hl
  refine lv_aload_n hx hb dX2_seconds_0 rfl (lv_at hl 0 rfl) ?_
  refine lv_aload_n hx hb dX2_seconds_1 rfl (lv_at hl 1 rfl) ?_
  refine z_callV cx (j := 1) (m_X2_has G l _ Pq P' h L ed cap y u0 rs T cs ys (hB.ext (Ext.ofS hS)) (hh.ext (Ext.ofS hS)) (hL.ext (Ext.ofS hS)) (hed.ext (Ext.ofS hS)) (hN.ext (Ext.ofS hS)) hn (hy.ext (Ext.ofS hS)) (mc := 0) (ms := 0)) (lw_V q937 q877 q878 q36 q879) (zrecv cx hh rfl) (by decide +kernel) rfl (rest := []) rfl hl (Nat.le_of_ble_eq_true rfl) (by decide) (by omega) dX2_seconds_2 hS (fun q h => Nat.le_trans hS.1 h) (fun v2 H locs hp2 hz9 hk9 hS => ?_)
  have hE9 := Ext.of hz9 hk9 (fun q h => h)
  have hb2 := b2i_rg (decide (hdV T ys ≠ none))
  subst hp2
  refine z_if_eq cx (tgt := 19) dX2_seconds_5 (by decide) (by omega) (fun c5 => ?_) (fun c5 => ?_)
  · have hv := Classical.not_not.mp (b2i_F c5)
    refine lv_iconst (v := iI (-1)) hx hb dX2_seconds_19 rfl ?_
    exact z_iret cx hQ rfl rfl (by rw [hv]; rfl) hS (by omega) dX2_seconds_20
  · have hv := b2i_T c5
    refine lv_aload_n hx hb dX2_seconds_8 rfl (lv_at hl 0 rfl) ?_
    refine lv_aload_n hx hb dX2_seconds_9 rfl (lv_at hl 1 rfl) ?_
    refine z_callV cx (j := 1) (m_X2_value G l _ Pq P' h L ed cap y u0 rs T cs ys (hB.ext (Ext.ofS hS)) (hh.ext (Ext.ofS hS)) (hL.ext (Ext.ofS hS)) (hed.ext (Ext.ofS hS)) (hN.ext (Ext.ofS hS)) hn (hy.ext (Ext.ofS hS)) (mc := 0) (ms := 0)) (lw_V q938 q797 q798 q36 q799) (zrecv cx (hh.ext (Ext.ofS hS)) rfl) (by decide +kernel) rfl (rest := []) rfl hl (Nat.le_of_ble_eq_true rfl) (by decide) (by omega) dX2_seconds_10 hS (fun q h => Nat.le_trans hS.1 h) (fun v10 H locs hp10 hz9 hk9 hS => ?_)
    have hE9 := Ext.of hz9 hk9 (fun q h => h)
    obtain ⟨o, rfl, ho⟩ := hp10
    rcases o with _ | o
    · exact absurd ho.n hv
    · obtain ⟨xs, hxs, ho⟩ := ho.s
      have hnr := numOf_rg xs
      refine z_callSN cx (j := 1) (m_X1_number G l _ _ o xs (hB.ext (Ext.ofS hS)) ho (mc := 0) (ms := 0)) q939 (lw_meth q619) q618 q32 (by decide +kernel) rfl (rest := []) rfl hl (Nat.le_of_ble_eq_true rfl) (by decide) (by omega) dX2_seconds_13 hS (fun q h => Nat.le_trans hS.1 h) (fun v13 H locs hp13 hz9 hk9 hS => ?_)
      have hE9 := Ext.of hz9 hk9 (fun q h => h)
      subst hp13
      refine lv_goto (tgt := 20) hx hb dX2_seconds_16 (by decide) ?_
      exact z_iret cx hQ rfl rfl (by rw [hxs]; rfl) hS (by omega) dX2_seconds_20
set_option maxHeartbeats 4000000 in
set_option maxRecDepth 100000 in
theorem m_X2_listed (G : zE) (l : Launch) (H0 : Heap) (Pq P' : Nat → Prop) (h L ed cap y : Nat) (u0 : Value) (rs : List Nat) (T : Txt) (cs : List Bool) (ys : List Int) (hB : Bh G H0) (hh : Ob G H0 h 1 [.ref L]) (hL : Ob G H0 L 8 [u0, .ref ed, .int (iI (rs.length : Int))]) (hed : EDok G H0 ed rs cap) (hN : LnB G Pq H0 rs T cs) (hn : T.length ≤ 30000) (hy : St G P' H0 y ys) (hnd : rs.Nodup) (hrb : ∀ r ∈ rs, G.2.heap.size ≤ r) (hQr : ∀ q, Pq q → q ∉ rs) (hvl : ∀ t ∈ T, t.2.length ≤ 3000) {mc ms : Nat} (hmc : uC cs T ≤ uC (lsF T cs ys) T + mc) (hms : uS cs T ≤ uS (lsF T cs ys) T + ms) : zR G l yX2_listed (ws_ yX2_listed cX2_listed 3 (some (FieldType.object "java/lang/String"))) 13 297 mc ms [.ref h, .ref y] H0 (fun r H1 => ∃ d : Nat, r = .ref d ∧ St G (PN G Pq H0) H1 d (lsO (hdV T ys)) ∧ LnB G (fun q => Pq q ∨ H0.size ≤ q) H1 rs T (lsF T cs ys)) (fun q => H0.size ≤ q ∨ q ∈ rs) := by
  refine zR.start (cc := cX2_listed) (by decide) (Nat.le_of_ble_eq_true rfl) ?_
  intro p e s m args below meth c Q cx hQ hmn ls hl
  have hx := cx.1
  have hb := cx.2.1
  have hS : va_S (fun q => H0.size ≤ q ∨ q ∈ rs) H0 H0 [] := va_S.rf
  have hl : lv_has ls 3 [(0, .ref h), (1, .ref y)] := hl
  have hB9 := hB.1
  have hBA : ∀ q, (H0.size ≤ q ∨ q ∈ rs) → G.2.heap.size ≤ q := fun q z => by rcases z with z | z; omega; exact hrb q z
  have hlsF : lsF T cs ys = if hdF T ys = -1 then cs else cs.set (hdF T ys).toNat true := rfl
  refine lv_aload_n hx hb dX2_listed_0 rfl (lv_at hl 0 rfl) ?_
  refine lv_aload_n hx hb dX2_listed_1 rfl (lv_at hl 1 rfl) ?_
  refine z_callV cx (j := 1) (m_X2_line G l _ Pq P' h L ed cap y u0 rs T cs ys hB hh hL hed hN hn hy (mc := 0) (ms := 0)) (lw_V q747 q749 qs10 q36 q750) (zrecv cx hh rfl) (by decide +kernel) rfl (rest := []) rfl hl (Nat.le_of_ble_eq_true rfl) (by decide) (by omega) dX2_listed_2 hS (fun q h => Or.inl (Nat.le_trans hS.1 h)) (fun v2 H locs hp2 hz9 hk9 hS => ?_)
  have hE9 := Ext.of hz9 hk9 (fun q h => h)
  skip
  have hh := hh.ext hE9
  have hN := hN.ext hE9
  rcases hp2 with ⟨rfl, hF⟩ | ⟨k9, hF, hkl, rfl⟩
  · rw [if_pos hF] at hlsF
    have hS9 := hS.2.1
    refine lv_astore_nN (lv' := [(2, .null), (0, .ref h), (1, .ref y)]) hx hb dX2_listed_5 rfl hl (by decide) rfl (fun ls hl => ?_)
    refine lv_aload_nN hx hb dX2_listed_6 rfl (lv_at hl 0 rfl) ?_
    refine lv_ifnonnullN hx hb dX2_listed_7 ?_
    obtain ⟨la10, ltx, lR, lS10⟩ := lit_X2_55 cx.kk.1
    refine z_ldcS cx lR dX2_listed_10 ?_
    refine lv_goto (tgt := 19) hx hb dX2_listed_12 (by decide) ?_
    exact z_aret cx hQ rfl (Or.inl ⟨_, rfl⟩) (⟨la10, rfl, by rw [hdV, if_pos hF]; exact lS10.kp (fun q hq hp => ⟨Or.inr (Or.inr hp), (hB.ofS hS hBA).2 q hq⟩), by rw [hlsF]; exact hN.kp (Kp.weak (fun q _ z => Or.inl z)) (fun _ _ => rfl)⟩) hS (by omega) dX2_listed_19
  · obtain ⟨w9, hw9⟩ : ∃ w, rs[k9]? = some w := ⟨_, List.getElem?_eq_getElem hkl⟩
    have hwm := List.mem_of_getElem? hw9
    obtain ⟨t9, cb9, ht9, hc9, nm9, vl9, li9, hOw, hnm, hvl9, hli, hcb⟩ := hN.at hw9
    have hgd : rs.getD k9 0 = w9 := by rw [List.getD_eq_getElem?_getD, hw9]; rfl
    have hwb := hrb w9 hwm
    have hln := hvl t9 (List.mem_of_getElem? ht9)
    have hV9 := hdV_k hF ht9
    have hTs : T.set k9 t9 = T := by
      obtain ⟨g1, g2⟩ := List.getElem?_eq_some_iff.mp ht9
      rw [← g2]; exact List.set_getElem_self g1
    rw [if_neg (by omega), hF, Int.toNat_natCast] at hlsF
    rw [hgd]
    refine lv_astore_n (lv' := [(2, .ref w9), (0, .ref h), (1, .ref y)]) hx hb dX2_listed_5 rfl hl (by decide) rfl (fun ls hl => ?_)
    refine lv_aload_n hx hb dX2_listed_6 rfl (lv_at hl 0 rfl) ?_
    refine lv_ifnonnull (tgt := 15) hx hb dX2_listed_7 (by decide) ?_
    refine lv_aload_n hx hb dX2_listed_15 rfl (lv_at hl 0 rfl) ?_
    have hgs := hS.1
    obtain ⟨M1, hM1⟩ : ∃ M1, M1 = (if li9 = none then 7 * t9.2.length + 20 else 0) := ⟨_, rfl⟩
    obtain ⟨M2, hM2⟩ : ∃ M2, M2 = (if li9 = none then 26 * t9.2.length + 300 else 0) := ⟨_, rfl⟩
    have hM1b : M1 ≤ mc ∧ M2 ≤ ms := by
      rw [hM1, hM2]
      rw [hlsF] at hmc hms
      cases li9 with
      | none =>
        rw [hcb] at hc9
        have := uC_set cs T k9 t9 hc9 ht9
        rw [if_pos rfl, if_pos rfl]
        omega
      | some x => rw [if_neg (by simp), if_neg (by simp)]; exact ⟨Nat.zero_le _, Nat.zero_le _⟩
    refine z_callV cx (j := 0) (m_X6_listed G l _ Pq w9 nm9 vl9 li9 t9.2 (hB.ofS hS hBA) hwb hOw hvl9 hln (mc := M1) (ms := M2) (fun e => by rw [hM1, if_pos e]; exact Nat.le_refl _) (fun e => by rw [hM2, if_pos e]; exact Nat.le_refl _)) (lw_V q814 q815 q816 q59 q817) (zrecv cx hOw rfl) (by decide +kernel) rfl (rest := []) rfl hl (Nat.le_of_ble_eq_true rfl) (by decide) (by omega) dX2_listed_16 hS (fun q h => by rcases h with h | h; exact Or.inl (Nat.le_trans hS.1 h); exact Or.inr (h ▸ hwm)) (fun v16 H locs hp16 hz9 hk9 hS => ?_)
    obtain ⟨d, rfl, hOw, hd⟩ := hp16
    have hkp : Kp Pq _ (fun q => Pq q ∨ H0.size ≤ q) H := fun q h1 h2 => ⟨Or.inl h2, hk9 q h1 (by rintro (z | z); exact absurd h1 (Nat.not_lt.mpr z); exact hQr q h2 (z ▸ hwm))⟩
    have hSd : St G (fun q => Pq q ∨ H0.size ≤ q) H d (lsd t9.2) := by
      rcases hd with e | e
      · rw [e] at hli; exact St.kp (xs := lsd t9.2) hli hkp
      · exact e.kp (Kp.weak (fun q _ z => Or.inr (Nat.le_trans hgs z)))
    have hN2 := hN.set hw9 hnd hkp (fun q h1 h2 h3 => hk9 q h1 (by rintro (z | z); exact absurd h1 (Nat.not_lt.mpr z); exact h3 z)) (t := t9) (cb := true) ⟨nm9, vl9, some d, hOw, hnm.kp hkp, hvl9.kp hkp, hSd, rfl⟩
    rw [hTs, ← hlsF] at hN2
    exact z_aret cx hQ rfl (Or.inl ⟨_, rfl⟩) (⟨d, rfl, by rw [hV9]; exact hSd.kp (Kp.weak (fun q _ z => z.imp id Or.inl)), hN2⟩) hS (by omega) dX2_listed_19
