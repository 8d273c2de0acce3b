/-! ===== the component: fault, things, bit, oldest, purge ===== -/
set_option maxHeartbeats 4000000 in
set_option maxRecDepth 100000 in
theorem m_X1_fault (G : zE) (l : Launch) (H0 : Heap) (x : Nat) (cs : List Bool) (g : Sg) (hR : RepC G H0 x cs g) {mc ms : Nat}  : zR G l yX1_fault (ws_ yX1_fault cX1_fault 1 (some FieldType.int)) 0 0 mc ms [.ref x] H0 (fun r _ => r = .int (iI (gFault g))) (Pur H0) := by
  refine zR.start (cc := cX1_fault) (by decide) (Nat.le_of_ble_eq_true rfl) ?_
  intro p e s m args below meth c Q cx hQ hmn ls hl
  have hx := cx.1
  have hb := cx.2.1
  have hS : va_S (Pur H0) H0 H0 [] := va_S.rf
  have hl : lv_has ls 1 [(0, .ref x)] := hl
  obtain ⟨tp, th, ed, cap, rq, wi, mz, as, rs, pad, hx0, hR2, hm, hok⟩ := hR
  refine lv_aload_n hx hb dX1_fault_0 rfl (lv_at hl 0 rfl) ?_
  refine z_get cx (k0 := 5) hx0 rfl in_X1 (by decide) q677 rfl rfl dX1_fault_1 ?_
  exact z_iret cx hQ rfl rfl rfl hS (by omega) dX1_fault_4
set_option maxHeartbeats 4000000 in
set_option maxRecDepth 100000 in
theorem m_X1_things (G : zE) (l : Launch) (H0 : Heap) (x : Nat) (cs : List Bool) (g : Sg) (hR : RepC G H0 x cs g) {mc ms : Nat}  : zR G l yX1_things (ws_ yX1_things cX1_things 1 (some FieldType.int)) 1 20 mc ms [.ref x] H0 (fun r _ => r = .int (iI ((gTs g).length : Int))) (Pur H0) := by
  refine zR.start (cc := cX1_things) (by decide) (Nat.le_of_ble_eq_true rfl) ?_
  intro p e s m args below meth c Q cx hQ hmn ls hl
  have hx := cx.1
  have hb := cx.2.1
  have hS : va_S (Pur H0) H0 H0 [] := va_S.rf
  have hl : lv_has ls 1 [(0, .ref x)] := hl
  obtain ⟨tp, th, ed, cap, rq, wi, mz, as, rs, pad, hx0, hR2, hm, hok⟩ := hR
  obtain ⟨g1, g2, g3, g4, g5, g6⟩ := hR2
  refine lv_aload_n hx hb dX1_things_0 rfl (lv_at hl 0 rfl) ?_
  refine z_get cx (k0 := 1) hx0 rfl in_X1 (by decide) q673 rfl rfl dX1_things_1 ?_
  refine z_callV cx (j := 0) (m_J2_size G l _ th (as.length : Int) (.int (iI mz)) (.ref ed) g2 (mc := 0) (ms := 0)) (lw_V q710 q546 q547 q35 q548) (zrecv cx g2 rfl) (by decide +kernel) rfl (rest := []) rfl hl (Nat.le_of_ble_eq_true rfl) (by decide) (by omega) dX1_things_4 hS (fun q h => Nat.le_trans hS.1 h) (fun v4 H locs hp4 hz9 hk9 hS => ?_)
  have hE9 := Ext.of hz9 hk9 (fun q h => h)
  have hx0 := hx0.ext hE9
  have g2 := g2.ext hE9
  subst hp4
  exact z_iret cx hQ rfl rfl (by rw [g6.1]) hS (by omega) dX1_things_7
set_option maxHeartbeats 4000000 in
set_option maxRecDepth 100000 in
theorem m_X1_bit (G : zE) (l : Launch) (H0 : Heap) (b : Bool) {mc ms : Nat}  : zR G l yX1_bit (ws_ yX1_bit cX1_bit 1 (some FieldType.int)) 0 0 mc ms [.int (iI (b2i b))] H0 (fun r _ => r = .int (iI (b2i b))) (Pur H0) := by
  refine zR.start (cc := cX1_bit) (by decide) (Nat.le_of_ble_eq_true rfl) ?_
  intro p e s m args below meth c Q cx hQ hmn ls hl
  have hx := cx.1
  have hb := cx.2.1
  have hS : va_S (Pur H0) H0 H0 [] := va_S.rf
  have hl : lv_has ls 1 [(0, .int (iI (b2i b)))] := hl
  have hb20 : b2i false = 0 := rfl
  have hb21 : b2i true = 1 := rfl
  rcases b with _ | _
  · refine lv_iload_n hx hb dX1_bit_0 rfl (lv_at hl 0 rfl) ?_
    refine z_if_eq cx (tgt := 8) dX1_bit_1 (by decide) (by omega) (fun c1 => ?_) (fun c1 => (by exfalso; exact c1 rfl))
    refine lv_iconst (v := iI (0)) hx hb dX1_bit_8 rfl ?_
    exact z_iret cx hQ rfl rfl rfl hS (by omega) dX1_bit_9
  · refine lv_iload_n hx hb dX1_bit_0 rfl (lv_at hl 0 rfl) ?_
    refine z_if_eq cx (tgt := 8) dX1_bit_1 (by decide) (by omega) (fun c1 => (by exfalso; exact absurd c1 (by decide))) (fun c1 => ?_)
    refine lv_iconst (v := iI (1)) hx hb dX1_bit_4 rfl ?_
    refine lv_goto (tgt := 9) hx hb dX1_bit_5 (by decide) ?_
    exact z_iret cx hQ rfl rfl rfl hS (by omega) dX1_bit_9
set_option maxHeartbeats 4000000 in
set_option maxRecDepth 100000 in
theorem m_X1_oldest (G : zE) (l : Launch) (H0 : Heap) (P : Nat → Prop) (x th ed cap : Nat) (u0 u2 u3 u4 u5 u6 u7 u8 : Value) (as : List Nat) (ts : List Th) (hx0 : Ob G H0 x 0 [u0, .ref th, u2, u3, u4, u5, u6, u7]) (hth : Ob G H0 th 8 [u8, .ref ed, .int (iI (as.length : Int))]) (hed : EDok G H0 ed as cap) (hC : CTs G P H0 as ts) (hn : 0 < as.length ∧ as.length ≤ 100) {mc ms : Nat}  : zR G l yX1_oldest (ws_ yX1_oldest cX1_oldest 3 (some (FieldType.object "VaryStore$Thing"))) 3 64 mc ms [.ref x] H0 (fun r _ => r = .ref (as.getD (lst1 (ts.map tUsed) ((ts.map tUsed).drop 1) 1 0) 0)) (Pur H0) := by
  refine zR.start (cc := cX1_oldest) (by decide) (Nat.le_of_ble_eq_true rfl) ?_
  intro p e s m args below meth c Q cx hQ hmn ls hl
  have hx := cx.1
  have hb := cx.2.1
  have hS : va_S (Pur H0) H0 H0 [] := va_S.rf
  have hl : lv_has ls 3 [(0, .ref x)] := hl
  have hlen := hC.1
  obtain ⟨a8, ha8⟩ : ∃ w, as[0]? = some w := ⟨_, List.getElem?_eq_getElem (by omega)⟩
  obtain ⟨t8, ht8, -, e8, v8, w8, co8, hO8, -⟩ := hC.at ha8
  have hgd8 : as.getD 0 0 = a8 := by rw [List.getD_eq_getElem?_getD, ha8]; rfl
  refine lv_aload_n hx hb dX1_oldest_0 rfl (lv_at hl 0 rfl) ?_
  refine z_get cx (k0 := 1) hx0 rfl in_X1 (by decide) q673 rfl rfl dX1_oldest_1 ?_
  refine lv_iconst (v := iI (0)) hx hb dX1_oldest_4 rfl ?_
  refine z_callV cx (j := 1) (m_J2_get G l _ th ed 0 cap as u8 (hth.ext (Ext.ofS hS)) (hed.ext (Ext.ofS hS)) ⟨by omega, by omega⟩ (mc := 0) (ms := 0)) (lw_V q711 q550 q551 q35 q552) (zrecv cx hth rfl) (by decide +kernel) rfl (rest := []) rfl hl (Nat.le_of_ble_eq_true rfl) (by decide) (by omega) dX1_oldest_5 hS (fun q h => Nat.le_trans hS.1 h) (fun v5 H locs hp5 hz9 hk9 hS => ?_)
  have hE9 := Ext.of hz9 hk9 (fun q h => h)
  have hO8 := hO8.ext hE9
  subst hp5
  rw [hgd8]
  refine va_castE hx hb cx.wn (cx.ts _ q712) (zrecv cx hO8 rfl) dX1_oldest_8 ?_
  refine lv_astore_n (lv' := [(1, .ref a8), (0, .ref x)]) hx hb dX1_oldest_11 rfl hl (by decide) rfl (fun ls hl => ?_)
  refine lv_iconst (v := iI (1)) hx hb dX1_oldest_12 rfl ?_
  refine lv_istore_n (lv' := [(2, .int (iI 1)), (1, .ref a8), (0, .ref x)]) hx hb dX1_oldest_13 rfl hl (by decide) rfl (fun ls hl => ?_)
  have lp : ∀ (fuel : Nat) (j b f : Nat), (as.length - j) < fuel → (1 ≤ j ∧ j ≤ as.length ∧ f < j) → (as[f]? = some b) → (lst1 (ts.map tUsed) ((ts.map tUsed).drop 1) 1 0 = lst1 (ts.map tUsed) ((ts.map tUsed).drop j) j f) → ∀ (H : Heap) (locs : List Loc) (ls : Array Slot) (k n : Nat), va_S (Pur H0) H0 H locs → (k ≤ mc) → (n ≤ ms) → lv_has ls 3 [(0, .ref x), (1, .ref b), (2, .int (iI ↑j))] → W p l e ⟨3, mc, ms, 64⟩ s m args below meth c H locs k n Q (F0 m 14 ls []) := by
    intro fuel
    induction fuel with
    | zero => intro j b f hf9; exact absurd hf9 (Nat.not_lt_zero _)
    | succ fuel ih_lp =>
      intro j b f hf9 hj hb9 he H locs ls k n hS  hr1 hr2 hl
      refine lv_iload_n hx hb dX1_oldest_14 rfl (lv_at hl 2 rfl) ?_
      refine lv_aload_n hx hb dX1_oldest_15 rfl (lv_at hl 0 rfl) ?_
      refine z_get cx (k0 := 1) (hx0.ext (Ext.ofS hS)) rfl in_X1 (by decide) q673 rfl rfl dX1_oldest_16 ?_
      refine z_callV cx (j := 0) (m_J2_size G l _ th (as.length : Int) u8 (.ref ed) (hth.ext (Ext.ofS hS)) (mc := 0) (ms := 0)) (lw_V q710 q546 q547 q35 q548) (zrecv cx (hth.ext (Ext.ofS hS)) rfl) (by decide +kernel) rfl (rest := [.int (iI ↑j)]) rfl hl (Nat.le_of_ble_eq_true rfl) (by decide) (by omega) dX1_oldest_19 hS (fun q h => Nat.le_trans hS.1 h) (fun v19 H locs hp19 hz9 hk9 hS => ?_)
      have hE9 := Ext.of hz9 hk9 (fun q h => h)
      subst hp19
      refine z_icmp_ge cx (tgt := 64) dX1_oldest_22 (by decide) (by omega) (fun c22 => ?_) (fun c22 => ?_)
      · have e1 : (ts.map tUsed).drop j = [] := List.drop_eq_nil_of_le (by rw [List.length_map]; omega)
        rw [e1, lst1] at he
        have hgd : as.getD f 0 = b := by rw [List.getD_eq_getElem?_getD, hb9]; rfl
        refine lv_aload_n hx hb dX1_oldest_64 rfl (lv_at hl 1 rfl) ?_
        exact z_aret cx hQ rfl (Or.inl ⟨_, rfl⟩) (by rw [he, hgd]) hS (by omega) dX1_oldest_65
      · obtain ⟨a9, ha9⟩ : ∃ w, as[j]? = some w := ⟨_, List.getElem?_eq_getElem (by omega)⟩
        obtain ⟨t9, ht9, hk9', e0, v0, w0, co, hO9, -⟩ := hC.at ha9
        obtain ⟨t7, ht7, hk7', e7, v7, w7, co7, hO7, -⟩ := hC.at hb9
        have hr9 := hk9'.2.2.2.2.2.2.2.2.2.2.2
        have hr7 := hk7'.2.2.2.2.2.2.2.2.2.2.2
        have hgd9 : as.getD j 0 = a9 := by rw [List.getD_eq_getElem?_getD, ha9]; rfl
        have hu9 : (ts.map tUsed)[j]? = some (tUsed t9) := by rw [List.getElem?_map, ht9]; rfl
        have hu7 : (ts.map tUsed).getD f 0 = tUsed t7 := by rw [List.getD_eq_getElem?_getD, List.getElem?_map, ht7]; rfl
        rw [drop_s hu9, lst1, hu7] at he
        refine lv_aload_n hx hb dX1_oldest_25 rfl (lv_at hl 0 rfl) ?_
        refine z_get cx (k0 := 1) (hx0.ext (Ext.ofS hS)) rfl in_X1 (by decide) q673 rfl rfl dX1_oldest_26 ?_
        refine lv_iload_n hx hb dX1_oldest_29 rfl (lv_at hl 2 rfl) ?_
        refine z_callV cx (j := 1) (m_J2_get G l _ th ed j cap as u8 (hth.ext (Ext.ofS hS)) (hed.ext (Ext.ofS hS)) ⟨by omega, by omega⟩ (mc := 0) (ms := 0)) (lw_V q711 q550 q551 q35 q552) (zrecv cx (hth.ext (Ext.ofS hS)) rfl) (by decide +kernel) rfl (rest := []) rfl hl (Nat.le_of_ble_eq_true rfl) (by decide) (by omega) dX1_oldest_30 hS (fun q h => Nat.le_trans hS.1 h) (fun v30 H locs hp30 hz9 hk9 hS => ?_)
        have hE9 := Ext.of hz9 hk9 (fun q h => h)
        subst hp30
        rw [hgd9]
        refine va_castE hx hb cx.wn (cx.ts _ q712) (zrecv cx (hO9.ext (Ext.ofS hS)) rfl) dX1_oldest_33 ?_
        refine z_getN cx (k0 := 8) (hO9.ext (Ext.ofS hS)) rfl in_X7 (by decide) q906 rfl rfl dX1_oldest_36 ?_
        refine lv_aload_n hx hb dX1_oldest_39 rfl (lv_at hl 1 rfl) ?_
        refine z_getN cx (k0 := 8) (hO7.ext (Ext.ofS hS)) rfl in_X7 (by decide) q906 rfl rfl dX1_oldest_40 ?_
        refine z_icmp_ge cx (tgt := 58) dX1_oldest_43 (by decide) (by omega) (fun c43 => ?_) (fun c43 => ?_)
        · rw [if_neg (by omega)] at he
          refine z_iinc cx (j := 2) (z := ((j + 1 : Nat) : Int)) (lv' := [(2, .int (iI ((j + 1 : Nat) : Int))), (0, .ref x), (1, .ref b)]) dX1_oldest_58 hl rfl (by omega) (by decide) rfl (fun ls hl => ?_)
          refine lv_goto (tgt := 14) hx hb dX1_oldest_61 (by decide) ?_
          exact ih_lp (j + 1) b f (by omega) (by omega) hb9 he _ _ _ _ _ hS  (by omega) (by omega) (lv_sub hl [1, 2, 0] rfl)
        · rw [if_pos (by omega)] at he
          refine lv_aload_n hx hb dX1_oldest_46 rfl (lv_at hl 0 rfl) ?_
          refine z_get cx (k0 := 1) (hx0.ext (Ext.ofS hS)) rfl in_X1 (by decide) q673 rfl rfl dX1_oldest_47 ?_
          refine lv_iload_n hx hb dX1_oldest_50 rfl (lv_at hl 2 rfl) ?_
          refine z_callV cx (j := 1) (m_J2_get G l _ th ed j cap as u8 (hth.ext (Ext.ofS hS)) (hed.ext (Ext.ofS hS)) ⟨by omega, by omega⟩ (mc := 0) (ms := 0)) (lw_V q711 q550 q551 q35 q552) (zrecv cx (hth.ext (Ext.ofS hS)) rfl) (by decide +kernel) rfl (rest := []) rfl hl (Nat.le_of_ble_eq_true rfl) (by decide) (by omega) dX1_oldest_51 hS (fun q h => Nat.le_trans hS.1 h) (fun v51 H locs hp51 hz9 hk9 hS => ?_)
          have hE9 := Ext.of hz9 hk9 (fun q h => h)
          subst hp51
          rw [hgd9]
          refine va_castE hx hb cx.wn (cx.ts _ q712) (zrecv cx (hO9.ext (Ext.ofS hS)) rfl) dX1_oldest_54 ?_
          refine lv_astore_n (lv' := [(1, .ref a9), (0, .ref x), (2, .int (iI ↑j))]) hx hb dX1_oldest_57 rfl hl (by decide) rfl (fun ls hl => ?_)
          refine z_iinc cx (j := 2) (z := ((j + 1 : Nat) : Int)) (lv' := [(2, .int (iI ((j + 1 : Nat) : Int))), (1, .ref a9), (0, .ref x)]) dX1_oldest_58 hl rfl (by omega) (by decide) rfl (fun ls hl => ?_)
          refine lv_goto (tgt := 14) hx hb dX1_oldest_61 (by decide) ?_
          exact ih_lp (j + 1) a9 j (by omega) (by omega) ha9 he _ _ _ _ _ hS  (by omega) (by omega) (lv_sub hl [2, 1, 0] rfl)
  exact lp _ 1 a8 0 (Nat.lt_succ_self _) (by omega) ha8 rfl _ _ _ _ _ hS  (by omega) (by omega) (lv_sub hl [2, 1, 0] rfl)
set_option maxHeartbeats 4000000 in
set_option maxRecDepth 100000 in
theorem m_X1_purge (G : zE) (l : Launch) (H0 : Heap) (x : Nat) (p0 : Int) (cs : List Bool) (g : Sg) (hB : Bh G H0) (hR : RepC G H0 x cs g) (hz : rg p0) {mc ms : Nat}  : zR G l yX1_purge (ws_ yX1_purge cX1_purge 4 (some FieldType.int)) 3 106 mc ms [.ref x, .int (iI p0)] H0 (fun r H1 => r = .int (iI (((gTs g).length - ((gTs g).filter (fun t => decide (tPath t ≠ p0))).length : Nat) : Int)) ∧ RepC G H1 x cs (gTape g, gFault g, gTime g, gReq g, (gTs g).filter (fun t => decide (tPath t ≠ p0)), gUse g)) (AC G H0) := by
  refine zR.start (cc := cX1_purge) (by decide) (Nat.le_of_ble_eq_true rfl) ?_
  intro p e s m args below meth c Q cx hQ hmn ls hl
  have hx := cx.1
  have hb := cx.2.1
  have hS : va_S (AC G H0) H0 H0 [] := va_S.rf
  have hl : lv_has ls 4 [(0, .ref x), (1, .int (iI p0))] := hl
  have hB9 := hB.1
  have hBA : ∀ q, AC G H0 q → G.2.heap.size ≤ q := AC.own hB
  obtain ⟨tp, th, ed, cap, rq, wi, mz0, as, rs, pad, hx0, ⟨hT, hth, hed, hHR, hCt, hC⟩, hm, hok, htz⟩ := hR
  obtain ⟨hm1, hm2, hm3, hm4, hm5, hm6, hm7, hm8, hm9⟩ := hm
  have hAth := AC.th hth hm7
  have hAed := fun hb => AC.ed cx.kk.1 hed (q := ed) hb
  have hlen := hC.1
  have hn24 := hok.2.2.2.2.1
  have hxth : x ≠ th := hx0.cl.ne hth.cl cx.kk rfl
  have hxed : ed ≠ x := hed.ne cx.kk hx0.cl hm5 rfl
  have htpth : tp ≠ th := hT.cl.ne hth.cl cx.kk rfl
  have htped : ed ≠ tp := hed.ne cx.kk hT.cl hm6 rfl
  have hrth : ∀ r ∈ rs, r ≠ th := fun r hr => (hHR.rcl r hr).ne hth.cl cx.kk rfl
  have hred : ∀ r ∈ rs, ed ≠ r := fun r hr => hed.ne cx.kk (hHR.rcl r hr) (hm9 r hr) rfl
  have hath : ∀ a ∈ as, a ≠ th := fun a ha => by obtain ⟨t, ht⟩ := hC.get ha; exact ht.cl.ne hth.cl cx.kk rfl
  have haed : ∀ a ∈ as, ed ≠ a := fun a ha => by obtain ⟨t, ht⟩ := hC.get ha; exact hed.ne cx.kk ht.cl (hm8 a ha) rfl
  refine lv_aload_n hx hb dX1_purge_0 rfl (lv_at hl 0 rfl) ?_
  refine z_get cx (k0 := 1) hx0 rfl in_X1 (by decide) q673 rfl rfl dX1_purge_1 ?_
  refine z_callV cx (j := 0) (m_J2_size G l _ th (as.length : Int) (.int (iI mz0)) (.ref ed) hth (mc := 0) (ms := 0)) (lw_V q710 q546 q547 q35 q548) (zrecv cx hth rfl) (by decide +kernel) rfl (rest := []) rfl hl (Nat.le_of_ble_eq_true rfl) (by decide) (by omega) dX1_purge_4 hS (fun q h => Or.inl (Nat.le_trans hS.1 h)) (fun v4 H locs hp4 hz9 hk9 hS => ?_)
  have hE9 := Ext.of hz9 hk9 (fun q h => h)
  have hx0 := hx0.ext hE9
  have hth := hth.ext hE9
  have hed := hed.ext hE9
  subst hp4
  have hT := hT.ext hE9
  have hHR := hHR.ext cx.kk.1 hE9
  have hCt := hCt.ext cx.kk.1 hE9
  have hC := hC.ext cx.kk.1 hE9
  refine lv_istore_n (lv' := [(2, .int (iI ↑as.length)), (0, .ref x), (1, .int (iI p0))]) hx hb dX1_purge_7 rfl hl (by decide) rfl (fun ls hl => ?_)
  refine lv_iload_n hx hb dX1_purge_8 rfl (lv_at hl 0 rfl) ?_
  refine lv_iconst (v := iI (1)) hx hb dX1_purge_9 rfl ?_
  refine z_isub cx (z := (as.length : Int) - 1) dX1_purge_10 (by omega) ?_
  refine lv_istore_n (lv' := [(3, .int (iI ((as.length : Int) - 1))), (2, .int (iI ↑as.length)), (0, .ref x), (1, .int (iI p0))]) hx hb dX1_purge_11 rfl hl (by decide) rfl (fun ls hl => ?_)
  have lp : ∀ (fuel : Nat) (j : Nat) (mz : Int) (bs : List Nat) (us : List Th), j < fuel → (j ≤ (gTs g).length) → (us = (gTs g).take j ++ ((gTs g).drop j).filter (fun t => decide (tPath t ≠ p0))) → (bs.Nodup ∧ (∀ a ∈ bs, a ∈ as) ∧ bs.length ≤ 24) → ∀ (H : Heap) (locs : List Loc) (ls : Array Slot) (k n : Nat), va_S (AC G H0) H0 H locs → Ob G H x 0 [.ref tp, .ref th, .ref rq, .ref wi, .int (iI (↑(gTape g).length)), .int (iI (gFault g)), .int (iI (gTime g)), .int (iI (gUse g : Int))] → Ob G H th 8 [.int (iI mz), .ref ed, .int (iI ↑bs.length)] → EDok G H ed bs cap → (Ai G H tp 100 (gTape g ++ pad)) → (HR G (PC G x tp th ed as rs) H rq rs (mrg (gReq g)) cs) → (Ct G (PC G x tp th ed as rs) H wi (ctL (vof (gReq g) nCc))) → (CTs G (PC G x tp th ed as rs) H bs us) → (k ≤ mc) → (n ≤ ms) → lv_has ls 4 [(0, .ref x), (1, .int (iI p0)), (2, .int (iI ↑as.length)), (3, .int (iI ((j : Int) - 1)))] → W p l e ⟨3, mc, ms, 106⟩ s m args below meth c H locs k n Q (F0 m 12 ls []) := by
    intro fuel
    induction fuel with
    | zero => intro j mz bs us hf9; exact absurd hf9 (Nat.not_lt_zero _)
    | succ fuel ih_lp =>
      intro j mz bs us hf9 hj hus hmb H locs ls k n hS hx0 hth hed hT hHR hCt hC hr1 hr2 hl
      have hbl := hC.1
      refine lv_iload_n hx hb dX1_purge_12 rfl (lv_at hl 3 rfl) ?_
      refine z_if_lt cx (tgt := 49) dX1_purge_13 (by decide) (by omega) (fun c13 => ?_) (fun c13 => ?_)
      · have e1 : j = 0 := by omega
        subst e1
        rw [List.take_zero, List.nil_append, List.drop_zero] at hus
        subst hus
        have hle := List.length_filter_le (fun t => decide (tPath t ≠ p0)) (gTs g)
        refine lv_iload_n hx hb dX1_purge_49 rfl (lv_at hl 2 rfl) ?_
        refine lv_aload_n hx hb dX1_purge_50 rfl (lv_at hl 0 rfl) ?_
        refine z_get cx (k0 := 1) hx0 rfl in_X1 (by decide) q673 rfl rfl dX1_purge_51 ?_
        refine z_callV cx (j := 0) (m_J2_size G l _ th (bs.length : Int) (.int (iI mz)) (.ref ed) hth (mc := 0) (ms := 0)) (lw_V q710 q546 q547 q35 q548) (zrecv cx hth rfl) (by decide +kernel) rfl (rest := [.int (iI ↑as.length)]) rfl hl (Nat.le_of_ble_eq_true rfl) (by decide) (by omega) dX1_purge_54 hS (fun q h => Or.inl (Nat.le_trans hS.1 h)) (fun v54 H locs hp54 hz9 hk9 hS => ?_)
        have hE9 := Ext.of hz9 hk9 (fun q h => h)
        have hx0 := hx0.ext hE9
        have hth := hth.ext hE9
        have hed := hed.ext hE9
        subst hp54
        have hT := hT.ext hE9
        have hHR := hHR.ext cx.kk.1 hE9
        have hCt := hCt.ext cx.kk.1 hE9
        have hC := hC.ext cx.kk.1 hE9
        refine z_isub cx (z := (((gTs g).length - ((gTs g).filter (fun t => decide (tPath t ≠ p0))).length : Nat) : Int)) dX1_purge_57 (by omega) ?_
        have hsb := PC.sub (G := G) (x := x) (tp := tp) (th := th) (ed := ed) (rs := rs) hmb.2.1
        exact z_iret cx hQ rfl rfl (⟨rfl, tp, th, ed, cap, rq, wi, mz, bs, rs, pad, hx0, ⟨hT, hth, hed, hHR.weak cx.kk.1 hsb, hCt.weak cx.kk.1 hsb, hC.weak cx.kk.1 hsb⟩, ⟨hm1, hm2, hmb.1, hm4, hm5, hm6, hm7, fun a ha => hm8 a (hmb.2.1 a ha), hm9⟩, ⟨hok.1, hok.2.1, hok.2.2.1, hok.2.2.2.1, by show ((gTs g).filter _).length ≤ 24; rw [← hbl]; exact hmb.2.2, hok.2.2.2.2.2⟩, htz⟩) hS (by omega) dX1_purge_58
      · obtain ⟨J, rfl⟩ : ∃ J, j = J + 1 := ⟨j - 1, by omega⟩
        rw [show (((J + 1 : Nat) : Int) - 1) = (J : Int) by omega] at hl
        have hJ : J < (gTs g).length := by omega
        have hul : us.length = J + 1 + (((gTs g).drop (J + 1)).filter (fun t => decide (tPath t ≠ p0))).length := by rw [hus, List.length_append, List.length_take]; omega
        obtain ⟨a9, ha9⟩ : ∃ w, bs[J]? = some w := ⟨_, List.getElem?_eq_getElem (by omega)⟩
        obtain ⟨t9, ht9, hk9', e0, v0, w0, co, hO9, -⟩ := hC.at ha9
        have hr9 := hk9'.2.2.2.2.2.2.2.2.2.2.1
        have hgd9 : bs.getD J 0 = a9 := by rw [List.getD_eq_getElem?_getD, ha9]; rfl
        have htg : (gTs g)[J]? = some t9 := by rw [hus, List.getElem?_append_left (by rw [List.length_take]; omega), List.getElem?_take] at ht9; rw [if_pos (by omega)] at ht9; exact ht9
        have hdr := drop_s htg
        have htk : (gTs g).take (J + 1) = (gTs g).take J ++ [t9] := by obtain ⟨q1, q2⟩ := List.getElem?_eq_some_iff.mp htg; rw [List.take_succ_eq_append_getElem q1, q2]
        refine lv_aload_n hx hb dX1_purge_16 rfl (lv_at hl 0 rfl) ?_
        refine z_get cx (k0 := 1) hx0 rfl in_X1 (by decide) q673 rfl rfl dX1_purge_17 ?_
        refine lv_iload_n hx hb dX1_purge_20 rfl (lv_at hl 3 rfl) ?_
        refine z_callV cx (j := 1) (m_J2_get G l _ th ed J cap bs (.int (iI mz)) hth hed ⟨by omega, by omega⟩ (mc := 0) (ms := 0)) (lw_V q711 q550 q551 q35 q552) (zrecv cx hth rfl) (by decide +kernel) rfl (rest := []) rfl hl (Nat.le_of_ble_eq_true rfl) (by decide) (by omega) dX1_purge_21 hS (fun q h => Or.inl (Nat.le_trans hS.1 h)) (fun v21 H locs hp21 hz9 hk9 hS => ?_)
        have hE9 := Ext.of hz9 hk9 (fun q h => h)
        have hx0 := hx0.ext hE9
        have hth := hth.ext hE9
        have hed := hed.ext hE9
        have hO9 := hO9.ext hE9
        subst hp21
        have hT := hT.ext hE9
        have hHR := hHR.ext cx.kk.1 hE9
        have hCt := hCt.ext cx.kk.1 hE9
        have hC := hC.ext cx.kk.1 hE9
        rw [hgd9]
        refine va_castE hx hb cx.wn (cx.ts _ q712) (zrecv cx hO9 rfl) dX1_purge_24 ?_
        refine z_getN cx (k0 := 0) hO9 rfl in_X7 (by decide) q893 rfl rfl dX1_purge_27 ?_
        refine lv_iload_n hx hb dX1_purge_30 rfl (lv_at hl 1 rfl) ?_
        refine z_icmp_ne cx (tgt := 43) dX1_purge_31 (by decide) (by omega) (fun c31 => ?_) (fun c31 => ?_)
        · have e2 : ((gTs g).drop J).filter (fun t => decide (tPath t ≠ p0)) = t9 :: ((gTs g).drop (J + 1)).filter (fun t => decide (tPath t ≠ p0)) := by rw [hdr, List.filter_cons, if_pos (by simpa using c31)]
          refine z_iinc cx (j := 3) (z := (J : Int) - 1) (lv' := [(3, .int (iI ((J : Int) - 1))), (0, .ref x), (1, .int (iI p0)), (2, .int (iI ↑as.length))]) dX1_purge_43 hl rfl (by omega) (by decide) rfl (fun ls hl => ?_)
          refine lv_goto (tgt := 12) hx hb dX1_purge_46 (by decide) ?_
          exact ih_lp J mz bs us (by omega) (by omega) (by rw [hus, htk, e2, List.append_assoc]; rfl) hmb _ _ _ _ _ hS hx0 hth hed hT hHR hCt hC (by omega) (by omega) (lv_sub hl [1, 2, 3, 0] rfl)
        · have e2 : ((gTs g).drop J).filter (fun t => decide (tPath t ≠ p0)) = ((gTs g).drop (J + 1)).filter (fun t => decide (tPath t ≠ p0)) := by rw [hdr, List.filter_cons, if_neg (by simpa using c31)]
          refine lv_aload_n hx hb dX1_purge_34 rfl (lv_at hl 0 rfl) ?_
          refine z_get cx (k0 := 1) hx0 rfl in_X1 (by decide) q673 rfl rfl dX1_purge_35 ?_
          refine lv_iload_n hx hb dX1_purge_38 rfl (lv_at hl 3 rfl) ?_
          have hx8 := hx0
          have hrl : (rmi bs J).length = bs.length - 1 := rmi_len (by omega)
          refine z_callV cx (j := 1) (m_J2_remove G l _ th ed cap J mz bs (hB.ofS hS hBA) hm7 hth hed (hC.el cx.kk) ⟨by omega, by omega⟩ (mc := 0) (ms := 0)) (lw_V q713 q636 q637 q35 q638) (zrecv cx hth rfl) (by decide +kernel) rfl (rest := []) rfl hl (Nat.le_of_ble_eq_true rfl) (by decide) (by omega) dX1_purge_39 hS (fun q h => by rcases h with h | h | h; exact Or.inl (Nat.le_trans hS.1 h); exact h ▸ hAth; exact h.2 ▸ hAed (h.2 ▸ h.1)) (fun v39 H locs hp39 hz9 hk9 hS => ?_)
          obtain ⟨rfl, hth, hed⟩ := hp39
          have kp1 := PC.kl (x := x) (tp := tp) (as := as) (rs := rs) hk9
          have hx0 := hx8.kept (kq_ne hk9 hx8.lt hxth (fun _ => hxed.symm))
          have hT := hT.kept (kq_ne hk9 hT.lt htpth (fun _ => htped.symm))
          have hHR := hHR.kp cx.kk.1 kp1 (fun r hr => kq_ne hk9 (hHR.rcl r hr).lt (hrth r hr) (fun _ => (hred r hr).symm))
          have hCt := hCt.kp cx.kk.1 kp1
          have hC := (hC.kp cx.kk.1 kp1 (fun a ha => by obtain ⟨t, ht⟩ := hC.get ha; exact kq_ne hk9 ht.lt (hath a (hmb.2.1 a ha)) (fun _ => (haed a (hmb.2.1 a ha)).symm))).rm J
          rw [← hrl] at hth
          refine lv_pop hx hb dX1_purge_42 rfl ?_
          refine z_iinc cx (j := 3) (z := (J : Int) - 1) (lv' := [(3, .int (iI ((J : Int) - 1))), (0, .ref x), (1, .int (iI p0)), (2, .int (iI ↑as.length))]) dX1_purge_43 hl rfl (by omega) (by decide) rfl (fun ls hl => ?_)
          refine lv_goto (tgt := 12) hx hb dX1_purge_46 (by decide) ?_
          exact ih_lp J (mz + 1) (rmi bs J) (rmi us J) (by omega) (by omega) (by rw [e2, hus]; exact rmi_take _ _ _ hJ) ⟨hmb.1.sublist (rmi_sub _ _), fun b hb => hmb.2.1 b (rmi_mem hb), by rw [hrl]; omega⟩ _ _ _ _ _ hS hx0 hth hed hT hHR hCt hC (by omega) (by omega) (lv_sub hl [1, 2, 3, 0] rfl)
  exact lp _ as.length mz0 as (gTs g) (Nat.lt_succ_self _) (by omega) (by rw [hlen, List.take_length, List.drop_length]; simp) ⟨hm3, fun a ha => ha, by omega⟩ _ _ _ _ _ hS hx0 hth hed hT hHR hCt hC (by omega) (by omega) (lv_sub hl [2, 3, 1, 0] rfl)
