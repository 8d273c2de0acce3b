/-! ===== the JDK: Math, String.indexOf ===== -/
set_option maxHeartbeats 4000000 in
set_option maxRecDepth 100000 in
theorem m_J7_canEncode (G : zE) (l : Launch) (H0 : Heap) (z : Int) (h : 0 ≤ z ∧ z < 128) {mc ms : Nat}  : zR G l yJ7_canEncode (ws_ yJ7_canEncode cJ7_canEncode 1 (some FieldType.boolean)) 0 0 mc ms [.int (iI z)] H0 (fun r _ => r = .int (iI 1)) (Pur H0) := by
  refine zR.start (cc := cJ7_canEncode) (by decide) (Nat.le_of_ble_eq_true rfl) ?_
  intro p e s m args below meth c Q cx hQ hmn ls hl
  have hx := cx.1
  have hb := cx.2.1
  have hS : va_S (Pur H0) H0 H0 [] := va_S.rf
  have hl : lv_has ls 1 [(0, .int (iI z))] := hl
  refine lv_iload_n hx hb dJ7_canEncode_0 rfl (lv_at hl 0 rfl) ?_
  refine lv_sipush (v := iI (255)) hx hb dJ7_canEncode_1 (by decide) ?_
  refine z_icmp_gt cx (tgt := 11) dJ7_canEncode_4 (by decide) (by omega) (fun c4 => (by exfalso; omega)) (fun c4 => ?_)
  refine lv_iconst (v := iI (1)) hx hb dJ7_canEncode_7 rfl ?_
  refine lv_goto (tgt := 12) hx hb dJ7_canEncode_8 (by decide) ?_
  exact z_iret cx hQ rfl rfl rfl hS (by omega) dJ7_canEncode_12
set_option maxHeartbeats 4000000 in
set_option maxRecDepth 100000 in
theorem m_J7_canEncode_2 (G : zE) (l : Launch) (H0 : Heap) (z : Int) (h : 0 ≤ z ∧ z < 128) {mc ms : Nat}  : zR G l yJ7_canEncode_2 (ws_ yJ7_canEncode_2 cJ7_canEncode_2 1 (some FieldType.boolean)) 0 0 mc ms [.int (iI z)] H0 (fun r _ => r = .int (iI 1)) (Pur H0) := by
  refine zR.start (cc := cJ7_canEncode_2) (by decide) (Nat.le_of_ble_eq_true rfl) ?_
  intro p e s m args below meth c Q cx hQ hmn ls hl
  have hx := cx.1
  have hb := cx.2.1
  have hS : va_S (Pur H0) H0 H0 [] := va_S.rf
  have hl : lv_has ls 1 [(0, .int (iI z))] := hl
  refine lv_iload_n hx hb dJ7_canEncode_2_0 rfl (lv_at hl 0 rfl) ?_
  refine z_if_lt cx (tgt := 15) dJ7_canEncode_2_1 (by decide) (by omega) (fun c1 => (by exfalso; omega)) (fun c1 => ?_)
  refine lv_iload_n hx hb dJ7_canEncode_2_4 rfl (lv_at hl 0 rfl) ?_
  refine lv_sipush (v := iI (255)) hx hb dJ7_canEncode_2_5 (by decide) ?_
  refine z_icmp_gt cx (tgt := 15) dJ7_canEncode_2_8 (by decide) (by omega) (fun c8 => (by exfalso; omega)) (fun c8 => ?_)
  refine lv_iconst (v := iI (1)) hx hb dJ7_canEncode_2_11 rfl ?_
  refine lv_goto (tgt := 16) hx hb dJ7_canEncode_2_12 (by decide) ?_
  exact z_iret cx hQ rfl rfl rfl hS (by omega) dJ7_canEncode_2_16
set_option maxHeartbeats 4000000 in
set_option maxRecDepth 100000 in
theorem m_J7_indexOfChar (G : zE) (l : Launch) (H0 : Heap) (b : Nat) (xs : List Int) (z : Int) (h : Sb G H0 b xs) (hch : chs xs) (hn : xs.length ≤ 100000) (hz : 0 ≤ z ∧ z < 128) {mc ms : Nat}  : zR G l yJ7_indexOfChar (ws_ yJ7_indexOfChar cJ7_indexOfChar 6 (some FieldType.int)) 0 0 mc ms [.ref b, .int (iI z), .int (iI 0), .int (iI ↑xs.length)] H0 (fun r _ => r = .int (iI (ixo xs z))) (Pur H0) := by
  refine zR.start (cc := cJ7_indexOfChar) (by decide) (Nat.le_of_ble_eq_true rfl) ?_
  intro p e s m args below meth c Q cx hQ hmn ls hl
  have hx := cx.1
  have hb := cx.2.1
  have hS : va_S (Pur H0) H0 H0 [] := va_S.rf
  have hl : lv_has ls 6 [(0, .ref b), (1, .int (iI z)), (2, .int (iI 0)), (3, .int (iI ↑xs.length))] := hl
  refine lv_iload_n hx hb dJ7_indexOfChar_0 rfl (lv_at hl 1 rfl) ?_
  refine lv_i2b (v := iI z) hx hb dJ7_indexOfChar_1 (iI_b (by omega)) ?_
  refine lv_istore (lv' := [(4, .int (iI z)), (0, .ref b), (1, .int (iI z)), (2, .int (iI 0)), (3, .int (iI ↑xs.length))]) hx hb dJ7_indexOfChar_2 hl (by decide) rfl (fun ls hl => ?_)
  refine lv_iload_n hx hb dJ7_indexOfChar_4 rfl (lv_at hl 3 rfl) ?_
  refine lv_istore (lv' := [(5, .int (iI 0)), (4, .int (iI z)), (0, .ref b), (1, .int (iI z)), (2, .int (iI 0)), (3, .int (iI ↑xs.length))]) hx hb dJ7_indexOfChar_5 hl (by decide) rfl (fun ls hl => ?_)
  have lp : ∀ (fuel : Nat) (j : Nat), (xs.length - j) < fuel → (j ≤ xs.length) → (∀ c ∈ sl xs 0 j, c ≠ z) → ∀ (H : Heap) (locs : List Loc) (ls : Array Slot) (k n : Nat), va_S (Pur H0) H0 H locs → (k ≤ mc) → (n ≤ ms) → lv_has ls 6 [(0, .ref b), (3, .int (iI ↑xs.length)), (4, .int (iI z)), (5, .int (iI ↑j))] → W p l e ⟨0, mc, ms, 0⟩ s m args below meth c H locs k n Q (F0 m 7 ls []) := by
    intro fuel
    induction fuel with
    | zero => intro j hf9; exact absurd hf9 (Nat.not_lt_zero _)
    | succ fuel ih_lp =>
      intro j hf9 hj hne H locs ls k n hS  hr1 hr2 hl
      refine lv_iload hx hb dJ7_indexOfChar_7 (lv_at hl 3 rfl) ?_
      refine lv_iload_n hx hb dJ7_indexOfChar_9 rfl (lv_at hl 1 rfl) ?_
      refine z_icmp_ge cx (tgt := 31) dJ7_indexOfChar_10 (by decide) (by omega) (fun c10 => ?_) (fun c10 => ?_)
      · have h9 := nxt_of (cs := xs) (x := z) (a := 0) (t := xs.length) (i := j) ⟨Nat.zero_le _, hj, Nat.le_refl _⟩ hne (Or.inl (by omega))
        refine lv_iconst (v := iI (-1)) hx hb dJ7_indexOfChar_31 rfl ?_
        exact z_iret cx hQ rfl rfl (by rw [ixo, h9, if_neg (by omega)]) hS (by omega) dJ7_indexOfChar_32
      · refine lv_aload_n hx hb dJ7_indexOfChar_13 rfl (lv_at hl 0 rfl) ?_
        refine lv_iload hx hb dJ7_indexOfChar_14 (lv_at hl 3 rfl) ?_
        refine z_baldS cx (h.ext (Ext.ofS hS)) (j) (by omega) dJ7_indexOfChar_16 (fun x16 hx16 => ?_)
        have bx16 := hch _ (List.mem_of_getElem? hx16)
        refine lv_iload hx hb dJ7_indexOfChar_17 (lv_at hl 2 rfl) ?_
        refine z_icmp_ne cx (tgt := 25) dJ7_indexOfChar_19 (by decide) (by omega) (fun c19 => ?_) (fun c19 => ?_)
        · have hjl := (List.getElem?_eq_some_iff.mp hx16).1
          refine z_iinc cx (j := 3) (z := ((j + 1 : Nat) : Int)) (lv' := [(5, .int (iI ((j + 1 : Nat) : Int))), (0, .ref b), (3, .int (iI ↑xs.length)), (4, .int (iI z))]) dJ7_indexOfChar_25 hl rfl (by omega) (by decide) rfl (fun ls hl => ?_)
          refine lv_goto (tgt := 7) hx hb dJ7_indexOfChar_28 (by decide) ?_
          exact ih_lp (j + 1) (by omega) (by omega) (by rw [sl_snoc hx16 (Nat.zero_le _)]; intro c hc; rcases List.mem_append.mp hc with q | q; exact hne c q; rw [List.mem_singleton.mp q]; exact c19) _ _ _ _ _ hS  (by omega) (by omega) (lv_sub hl [1, 2, 3, 0] rfl)
        · have hjl := (List.getElem?_eq_some_iff.mp hx16).1
          have h9 := nxt_of (cs := xs) (x := z) (a := 0) (t := xs.length) (i := j) ⟨Nat.zero_le _, hj, Nat.le_refl _⟩ hne (Or.inr (by rw [← c19]; exact hx16))
          refine lv_iload hx hb dJ7_indexOfChar_22 (lv_at hl 3 rfl) ?_
          exact z_iret cx hQ rfl rfl (by rw [ixo, h9, if_pos hjl]) hS (by omega) dJ7_indexOfChar_24
  exact lp _ 0 (Nat.lt_succ_self _) (Nat.zero_le _) (by rw [sl_nil (Nat.le_refl _)]; intro c hc; cases hc) _ _ _ _ _ hS  (by omega) (by omega) (lv_sub hl [2, 5, 1, 0] rfl)
set_option maxHeartbeats 4000000 in
set_option maxRecDepth 100000 in
theorem m_J7_indexOf (G : zE) (l : Launch) (H0 : Heap) (b : Nat) (xs : List Int) (z : Int) (h : Sb G H0 b xs) (hch : chs xs) (hn : xs.length ≤ 100000) (hz : 0 ≤ z ∧ z < 128) {mc ms : Nat}  : zR G l yJ7_indexOf (ws_ yJ7_indexOf cJ7_indexOf 4 (some FieldType.int)) 1 25 mc ms [.ref b, .int (iI z), .int (iI 0), .int (iI ↑xs.length)] H0 (fun r _ => r = .int (iI (ixo xs z))) (Pur H0) := by
  refine zR.start (cc := cJ7_indexOf) (by decide) (Nat.le_of_ble_eq_true rfl) ?_
  intro p e s m args below meth c Q cx hQ hmn ls hl
  have hx := cx.1
  have hb := cx.2.1
  have hS : va_S (Pur H0) H0 H0 [] := va_S.rf
  have hl : lv_has ls 4 [(0, .ref b), (1, .int (iI z)), (2, .int (iI 0)), (3, .int (iI ↑xs.length))] := hl
  refine lv_iload_n hx hb dJ7_indexOf_0 rfl (lv_at hl 1 rfl) ?_
  refine z_callS cx (j := 1) (m_J7_canEncode_2 G l _ z hz (mc := 0) (ms := 0)) (lw_S q577 q578 q42 q579) (by decide +kernel) rfl (rest := []) rfl hl (Nat.le_of_ble_eq_true rfl) (by decide) (by omega) dJ7_indexOf_1 hS (fun q h => Nat.le_trans hS.1 h) (fun v1 H locs hp1 hz9 hk9 hS => ?_)
  have hE9 := Ext.of hz9 hk9 (fun q h => h)
  subst hp1
  refine z_if_ne cx (tgt := 9) dJ7_indexOf_4 (by decide) (by omega) (fun c4 => ?_) (fun c4 => (by exfalso; omega))
  refine lv_iload_n hx hb dJ7_indexOf_9 rfl (lv_at hl 2 rfl) ?_
  refine lv_iconst (v := iI (0)) hx hb dJ7_indexOf_10 rfl ?_
  refine z_mmax cx (z := 0) (rest := []) q580 ⟨by omega, by omega⟩ (by omega) hl (by decide) (by decide) (by omega) dJ7_indexOf_11 ?_
  refine lv_istore_n (lv' := [(2, .int (iI 0)), (0, .ref b), (1, .int (iI z)), (3, .int (iI ↑xs.length))]) hx hb dJ7_indexOf_14 rfl hl (by decide) rfl (fun ls hl => ?_)
  refine lv_iload_n hx hb dJ7_indexOf_15 rfl (lv_at hl 3 rfl) ?_
  refine lv_aload_n hx hb dJ7_indexOf_16 rfl (lv_at hl 1 rfl) ?_
  refine z_alenS cx (h.ext (Ext.ofS hS)) dJ7_indexOf_17 ?_
  refine z_mmin cx (z := ↑xs.length) (rest := []) q581 ⟨by omega, by omega⟩ (by omega) hl (by decide) (by decide) (by omega) dJ7_indexOf_18 ?_
  refine lv_istore_n (lv' := [(3, .int (iI ↑xs.length)), (2, .int (iI 0)), (0, .ref b), (1, .int (iI z))]) hx hb dJ7_indexOf_21 rfl hl (by decide) rfl (fun ls hl => ?_)
  refine lv_iload_n hx hb dJ7_indexOf_22 rfl (lv_at hl 1 rfl) ?_
  refine lv_iload_n hx hb dJ7_indexOf_23 rfl (lv_at hl 0 rfl) ?_
  refine z_icmp_lt cx (tgt := 29) dJ7_indexOf_24 (by decide) (by omega) (fun c24 => ?_) (fun c24 => ?_)
  · refine lv_aload_n hx hb dJ7_indexOf_29 rfl (lv_at hl 2 rfl) ?_
    refine lv_iload_n hx hb dJ7_indexOf_30 rfl (lv_at hl 3 rfl) ?_
    refine lv_iload_n hx hb dJ7_indexOf_31 rfl (lv_at hl 1 rfl) ?_
    refine lv_iload_n hx hb dJ7_indexOf_32 rfl (lv_at hl 0 rfl) ?_
    refine z_callS cx (j := 4) (m_J7_indexOfChar G l _ b xs z (h.ext (Ext.ofS hS)) hch hn hz (mc := 0) (ms := 0)) (lw_S q582 q583 q42 q584) (by decide +kernel) rfl (rest := []) rfl hl (Nat.le_of_ble_eq_true rfl) (by decide) (by omega) dJ7_indexOf_33 hS (fun q h => Nat.le_trans hS.1 h) (fun v33 H locs hp33 hz9 hk9 hS => ?_)
    have hE9 := Ext.of hz9 hk9 (fun q h => h)
    subst hp33
    exact z_iret cx hQ rfl rfl rfl hS (by omega) dJ7_indexOf_36
  · have hx0 : xs.length = 0 := by omega
    refine lv_iconst (v := iI (-1)) hx hb dJ7_indexOf_27 rfl ?_
    exact z_iret cx hQ rfl rfl (by rw [ixo, if_neg (by omega)]) hS (by omega) dJ7_indexOf_28
set_option maxHeartbeats 4000000 in
set_option maxRecDepth 100000 in
theorem m_J5_indexOf_2 (G : zE) (l : Launch) (H0 : Heap) (P : Nat → Prop) (a : Nat) (xs : List Int) (z : Int) (hB : Bh G H0) (h0 : St G P H0 a xs) (hz : 0 ≤ z ∧ z < 128) {mc ms : Nat}  : zR G l yJ5_indexOf_2 (ws_ yJ5_indexOf_2 cJ5_indexOf_2 3 (some FieldType.int)) 2 48 mc ms [.ref a, .int (iI z), .int (iI 0)] H0 (fun r _ => r = .int (iI (ixo xs z))) (Pur H0) := by
  refine zR.start (cc := cJ5_indexOf_2) (by decide) (Nat.le_of_ble_eq_true rfl) ?_
  intro p e s m args below meth c Q cx hQ hmn ls hl
  have hx := cx.1
  have hb := cx.2.1
  have hS : va_S (Pur H0) H0 H0 [] := va_S.rf
  have hl : lv_has ls 3 [(0, .ref a), (1, .int (iI z)), (2, .int (iI 0))] := hl
  have h := h0
  obtain ⟨-, hch, hn, b, -, hs, hb9⟩ := h
  refine lv_aload_n hx hb dJ5_indexOf_2_0 rfl (lv_at hl 0 rfl) ?_
  refine z_callV cx (j := 0) (m_J5_isLatin1 G l _ a b (hB.ext (Ext.ofS hS)) (hs.ext (Ext.ofS hS)) (mc := 0) (ms := 0)) (lw_V q169 q170 q171 q40 q172) (zrecvS cx hs) (by decide +kernel) rfl (rest := []) rfl hl (Nat.le_of_ble_eq_true rfl) (by decide) (by omega) dJ5_indexOf_2_1 hS (fun q h => Nat.le_trans hS.1 h) (fun v1 H locs hp1 hz9 hk9 hS => ?_)
  have hE9 := Ext.of hz9 hk9 (fun q h => h)
  subst hp1
  refine z_if_eq cx (tgt := 23) dJ5_indexOf_2_4 (by decide) (by omega) (fun c4 => (by exfalso; omega)) (fun c4 => ?_)
  refine lv_aload_n hx hb dJ5_indexOf_2_7 rfl (lv_at hl 0 rfl) ?_
  refine z_getSv cx (hs.ext (Ext.ofS hS)) q457 dJ5_indexOf_2_8 ?_
  refine lv_iload_n hx hb dJ5_indexOf_2_11 rfl (lv_at hl 1 rfl) ?_
  refine lv_iload_n hx hb dJ5_indexOf_2_12 rfl (lv_at hl 2 rfl) ?_
  refine lv_aload_n hx hb dJ5_indexOf_2_13 rfl (lv_at hl 0 rfl) ?_
  refine z_callV cx (j := 0) (m_J5_length G l _ P a xs (hB.ext (Ext.ofS hS)) (h0.ext (Ext.ofS hS)) (mc := 0) (ms := 0)) (lw_V q475 q157 q158 q40 q159) (zrecvS cx (hs.ext (Ext.ofS hS))) (by decide +kernel) rfl (rest := [.int (iI 0), .int (iI z), .ref b]) rfl hl (Nat.le_of_ble_eq_true rfl) (by decide) (by omega) dJ5_indexOf_2_14 hS (fun q h => Nat.le_trans hS.1 h) (fun v14 H locs hp14 hz9 hk9 hS => ?_)
  have hE9 := Ext.of hz9 hk9 (fun q h => h)
  subst hp14
  refine z_callS cx (j := 4) (m_J7_indexOf G l _ b xs z (hb9.ext (Ext.ofS hS)) hch hn hz (mc := 0) (ms := 0)) (lw_S q574 q575 q42 q576) (by decide +kernel) rfl (rest := []) rfl hl (Nat.le_of_ble_eq_true rfl) (by decide) (by omega) dJ5_indexOf_2_17 hS (fun q h => Nat.le_trans hS.1 h) (fun v17 H locs hp17 hz9 hk9 hS => ?_)
  have hE9 := Ext.of hz9 hk9 (fun q h => h)
  subst hp17
  refine lv_goto (tgt := 36) hx hb dJ5_indexOf_2_20 (by decide) ?_
  exact z_iret cx hQ rfl rfl rfl hS (by omega) dJ5_indexOf_2_36
set_option maxHeartbeats 4000000 in
set_option maxRecDepth 100000 in
theorem m_J5_indexOf (G : zE) (l : Launch) (H0 : Heap) (P : Nat → Prop) (a : Nat) (xs : List Int) (z : Int) (hB : Bh G H0) (h0 : St G P H0 a xs) (hz : 0 ≤ z ∧ z < 128) {mc ms : Nat}  : zR G l yJ5_indexOf (ws_ yJ5_indexOf cJ5_indexOf 2 (some FieldType.int)) 3 70 mc ms [.ref a, .int (iI z)] H0 (fun r _ => r = .int (iI (ixo xs z))) (Pur H0) := by
  refine zR.start (cc := cJ5_indexOf) (by decide) (Nat.le_of_ble_eq_true rfl) ?_
  intro p e s m args below meth c Q cx hQ hmn ls hl
  have hx := cx.1
  have hb := cx.2.1
  have hS : va_S (Pur H0) H0 H0 [] := va_S.rf
  have hl : lv_has ls 2 [(0, .ref a), (1, .int (iI z))] := hl
  have h := h0
  obtain ⟨-, hch, hn, b, -, hs, hb9⟩ := h
  refine lv_aload_n hx hb dJ5_indexOf_0 rfl (lv_at hl 0 rfl) ?_
  refine lv_iload_n hx hb dJ5_indexOf_1 rfl (lv_at hl 1 rfl) ?_
  refine lv_iconst (v := iI (0)) hx hb dJ5_indexOf_2 rfl ?_
  refine z_callV cx (j := 2) (m_J5_indexOf_2 G l _ P a xs z (hB.ext (Ext.ofS hS)) (h0.ext (Ext.ofS hS)) hz (mc := 0) (ms := 0)) (lw_V q570 q571 q572 q40 q573) (zrecvS cx hs) (by decide +kernel) rfl (rest := []) rfl hl (Nat.le_of_ble_eq_true rfl) (by decide) (by omega) dJ5_indexOf_3 hS (fun q h => Nat.le_trans hS.1 h) (fun v3 H locs hp3 hz9 hk9 hS => ?_)
  have hE9 := Ext.of hz9 hk9 (fun q h => h)
  subst hp3
  exact z_iret cx hQ rfl rfl rfl hS (by omega) dJ5_indexOf_6
