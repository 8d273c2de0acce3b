/-! ===== the JDK: String.charAt, equals ===== -/
set_option maxHeartbeats 4000000 in
set_option maxRecDepth 100000 in
theorem m_J7_charAt (G : zE) (l : Launch) (H0 : Heap) (b i : Nat) (xs : List Int) (c0 : Int) (hB : Bh G H0) (h : Sb G H0 b xs) (hch : chs xs) (hn : xs.length ≤ 100000) (hc : xs[i]? = some c0) {mc ms : Nat}  : zR G l yJ7_charAt (ws_ yJ7_charAt cJ7_charAt 2 (some FieldType.char)) 2 43 mc ms [.ref b, .int (iI ↑i)] H0 (fun r _ => r = .int (iI c0)) (Pur H0) := by
  refine zR.start (cc := cJ7_charAt) (by decide) (Nat.le_of_ble_eq_true rfl) ?_
  intro p e s m args below meth c Q cx hQ hmn ls hl
  have hx := cx.1
  have hb := cx.2.1
  have hS : va_S (Pur H0) H0 H0 [] := va_S.rf
  have hl : lv_has ls 2 [(0, .ref b), (1, .int (iI ↑i))] := hl
  have hil := (List.getElem?_eq_some_iff.mp hc).1
  have hcr := hch _ (List.mem_of_getElem? hc)
  refine lv_iload_n hx hb dJ7_charAt_0 rfl (lv_at hl 1 rfl) ?_
  refine lv_aload_n hx hb dJ7_charAt_1 rfl (lv_at hl 0 rfl) ?_
  refine z_alenS cx h dJ7_charAt_2 ?_
  refine z_callSv cx (j := 2) (m_J5_checkIndex G l _ i xs.length (hB.ext (Ext.ofS hS)) ⟨hil, by omega⟩ (mc := 0) (ms := 0)) (lw_S q176 q177 q40 q178) (by decide +kernel) rfl (rest := []) rfl hl (Nat.le_of_ble_eq_true rfl) (by decide) (by omega) dJ7_charAt_3 hS (fun q h => Nat.le_trans hS.1 h) (fun H locs hp3 hz9 hk9 hS => ?_)
  have hE9 := Ext.of hz9 hk9 (fun q h => h)
  skip
  refine lv_aload_n hx hb dJ7_charAt_6 rfl (lv_at hl 0 rfl) ?_
  refine lv_iload_n hx hb dJ7_charAt_7 rfl (lv_at hl 1 rfl) ?_
  refine z_baldS cx (h.ext (Ext.ofS hS)) (i) (by omega) dJ7_charAt_8 (fun x8 hx8 => ?_)
  rw [zsub hx8 hc]
  refine lv_sipush (v := iI (255)) hx hb dJ7_charAt_9 (by decide) ?_
  refine z_iand255 cx (by omega) dJ7_charAt_12 ?_
  refine lv_i2c (v := iI c0) hx hb dJ7_charAt_13 (iI_c (by omega)) ?_
  exact z_iret cx hQ rfl (c_nar (by omega)) rfl hS (by omega) dJ7_charAt_14
set_option maxHeartbeats 4000000 in
set_option maxRecDepth 100000 in
theorem m_J5_charAt (G : zE) (l : Launch) (H0 : Heap) (P : Nat → Prop) (a i : Nat) (xs : List Int) (c0 : Int) (hB : Bh G H0) (h : St G P H0 a xs) (hc : xs[i]? = some c0) {mc ms : Nat}  : zR G l yJ5_charAt (ws_ yJ5_charAt cJ5_charAt 2 (some FieldType.char)) 3 64 mc ms [.ref a, .int (iI ↑i)] H0 (fun r _ => r = .int (iI c0)) (Pur H0) := by
  refine zR.start (cc := cJ5_charAt) (by decide) (Nat.le_of_ble_eq_true rfl) ?_
  intro p e s m args below meth c Q cx hQ hmn ls hl
  have hx := cx.1
  have hb := cx.2.1
  have hS : va_S (Pur H0) H0 H0 [] := va_S.rf
  have hl : lv_has ls 2 [(0, .ref a), (1, .int (iI ↑i))] := hl
  obtain ⟨-, hch, hn, b, -, hs, hb9⟩ := h
  refine lv_aload_n hx hb dJ5_charAt_0 rfl (lv_at hl 0 rfl) ?_
  refine z_callV cx (j := 0) (m_J5_isLatin1 G l _ a b (hB.ext (Ext.ofS hS)) (hs.ext (Ext.ofS hS)) (mc := 0) (ms := 0)) (lw_V q169 q170 q171 q40 q172) (zrecvS cx hs) (by decide +kernel) rfl (rest := []) rfl hl (Nat.le_of_ble_eq_true rfl) (by decide) (by omega) dJ5_charAt_1 hS (fun q h => Nat.le_trans hS.1 h) (fun v1 H locs hp1 hz9 hk9 hS => ?_)
  have hE9 := Ext.of hz9 hk9 (fun q h => h)
  subst hp1
  refine z_if_eq cx (tgt := 16) dJ5_charAt_4 (by decide) (by omega) (fun c4 => (by exfalso; omega)) (fun c4 => ?_)
  refine lv_aload_n hx hb dJ5_charAt_7 rfl (lv_at hl 0 rfl) ?_
  refine z_getSv cx (hs.ext (Ext.ofS hS)) q457 dJ5_charAt_8 ?_
  refine lv_iload_n hx hb dJ5_charAt_11 rfl (lv_at hl 1 rfl) ?_
  refine z_callS cx (j := 2) (m_J7_charAt G l _ b i xs c0 (hB.ext (Ext.ofS hS)) (hb9.ext (Ext.ofS hS)) hch hn hc (mc := 0) (ms := 0)) (lw_S q173 q174 q42 q175) (by decide +kernel) rfl (rest := []) rfl hl (Nat.le_of_ble_eq_true rfl) (by decide) (by omega) dJ5_charAt_12 hS (fun q h => Nat.le_trans hS.1 h) (fun v12 H locs hp12 hz9 hk9 hS => ?_)
  have hE9 := Ext.of hz9 hk9 (fun q h => h)
  subst hp12
  have hcr := hch _ (List.mem_of_getElem? hc)
  exact z_iret cx hQ rfl (c_nar (by omega)) rfl hS (by omega) dJ5_charAt_15
set_option maxHeartbeats 4000000 in
set_option maxRecDepth 100000 in
theorem m_J7_equals (G : zE) (l : Launch) (H0 : Heap) (b d : Nat) (xs ys : List Int) (h : Sb G H0 b xs) (h2 : Sb G H0 d ys) (hcx : chs xs) (hcy : chs ys) (hn : xs.length ≤ 100000 ∧ ys.length ≤ 100000) {mc ms : Nat}  : zR G l yJ7_equals (ws_ yJ7_equals cJ7_equals 3 (some FieldType.boolean)) 0 0 mc ms [.ref b, .ref d] H0 (fun r _ => r = .int (iI (b2i (decide (xs = ys))))) (Pur H0) := by
  refine zR.start (cc := cJ7_equals) (by decide) (Nat.le_of_ble_eq_true rfl) ?_
  intro p e s m args below meth c Q cx hQ hmn ls hl
  have hx := cx.1
  have hb := cx.2.1
  have hS : va_S (Pur H0) H0 H0 [] := va_S.rf
  have hl : lv_has ls 3 [(0, .ref b), (1, .ref d)] := hl
  refine lv_aload_n hx hb dJ7_equals_0 rfl (lv_at hl 0 rfl) ?_
  refine z_alenS cx h dJ7_equals_1 ?_
  refine lv_aload_n hx hb dJ7_equals_2 rfl (lv_at hl 1 rfl) ?_
  refine z_alenS cx h2 dJ7_equals_3 ?_
  refine z_icmp_ne cx (tgt := 34) dJ7_equals_4 (by decide) (by omega) (fun c4 => ?_) (fun c4 => ?_)
  · refine lv_iconst (v := iI (0)) hx hb dJ7_equals_34 rfl ?_
    have hne : xs ≠ ys := fun e => by rw [e] at c4; exact c4 rfl
    exact z_iret cx hQ rfl rfl (by rw [decide_eq_false hne]; rfl) hS (by omega) dJ7_equals_35
  · refine lv_iconst (v := iI (0)) hx hb dJ7_equals_7 rfl ?_
    refine lv_istore_n (lv' := [(2, .int (iI 0)), (0, .ref b), (1, .ref d)]) hx hb dJ7_equals_8 rfl hl (by decide) rfl (fun ls hl => ?_)
    have lp : ∀ (fuel : Nat) (j : Nat), (xs.length - j) < fuel → (j ≤ xs.length) → ((xs = ys) ↔ xs.drop j = ys.drop j) → ∀ (H : Heap) (locs : List Loc) (ls : Array Slot) (k n : Nat), va_S (Pur H0) H0 H locs → (k ≤ mc) → (n ≤ ms) → lv_has ls 3 [(0, .ref b), (1, .ref d), (2, .int (iI ↑j))] → W p l e ⟨0, mc, ms, 0⟩ s m args below meth c H locs k n Q (F0 m 9 ls []) := by
      intro fuel
      induction fuel with
      | zero => intro j hf9; exact absurd hf9 (Nat.not_lt_zero _)
      | succ fuel ih_lp =>
        intro j hf9 hj he H locs ls k n hS  hr1 hr2 hl
        refine lv_iload_n hx hb dJ7_equals_9 rfl (lv_at hl 2 rfl) ?_
        refine lv_aload_n hx hb dJ7_equals_10 rfl (lv_at hl 0 rfl) ?_
        refine z_alenS cx (h.ext (Ext.ofS hS)) dJ7_equals_11 ?_
        refine z_icmp_ge cx (tgt := 32) dJ7_equals_12 (by decide) (by omega) (fun c12 => ?_) (fun c12 => ?_)
        · rw [List.drop_eq_nil_of_le (show xs.length ≤ j by omega), List.drop_eq_nil_of_le (show ys.length ≤ j by omega)] at he
          refine lv_iconst (v := iI (1)) hx hb dJ7_equals_32 rfl ?_
          exact z_iret cx hQ rfl rfl (by rw [decide_eq_true (he.mpr rfl)]; rfl) hS (by omega) dJ7_equals_33
        · refine lv_aload_n hx hb dJ7_equals_15 rfl (lv_at hl 0 rfl) ?_
          refine lv_iload_n hx hb dJ7_equals_16 rfl (lv_at hl 2 rfl) ?_
          refine z_baldS cx (h.ext (Ext.ofS hS)) (j) (by omega) dJ7_equals_17 (fun x17 hx17 => ?_)
          have bx17 := hcx _ (List.mem_of_getElem? hx17)
          refine lv_aload_n hx hb dJ7_equals_18 rfl (lv_at hl 1 rfl) ?_
          refine lv_iload_n hx hb dJ7_equals_19 rfl (lv_at hl 2 rfl) ?_
          refine z_baldS cx (h2.ext (Ext.ofS hS)) (j) (by omega) dJ7_equals_20 (fun x20 hx20 => ?_)
          have bx20 := hcy _ (List.mem_of_getElem? hx20)
          refine z_icmp_eq cx (tgt := 26) dJ7_equals_21 (by decide) (by omega) (fun c21 => ?_) (fun c21 => ?_)
          · have h9 := eq_drop hx17 hx20
            refine z_iinc cx (j := 2) (z := ((j + 1 : Nat) : Int)) (lv' := [(2, .int (iI ((j + 1 : Nat) : Int))), (0, .ref b), (1, .ref d)]) dJ7_equals_26 hl rfl (by omega) (by decide) rfl (fun ls hl => ?_)
            refine lv_goto (tgt := 9) hx hb dJ7_equals_29 (by decide) ?_
            exact ih_lp (j + 1) (by omega) (by omega) (by rw [he, h9]; exact ⟨fun z => z.2, fun z => ⟨c21, z⟩⟩) _ _ _ _ _ hS  (by omega) (by omega) (lv_sub hl [1, 2, 0] rfl)
          · have h9 := eq_drop hx17 hx20
            have hne : ¬ xs = ys := fun z => c21 (h9.mp (he.mp z)).1
            refine lv_iconst (v := iI (0)) hx hb dJ7_equals_24 rfl ?_
            exact z_iret cx hQ rfl rfl (by rw [decide_eq_false hne]; rfl) hS (by omega) dJ7_equals_25
    exact lp _ 0 (Nat.lt_succ_self _) (Nat.zero_le _) (by rw [List.drop_zero, List.drop_zero]) _ _ _ _ _ hS  (by omega) (by omega) (lv_sub hl [1, 2, 0] rfl)
set_option maxHeartbeats 4000000 in
set_option maxRecDepth 100000 in
theorem m_J5_equals (G : zE) (l : Launch) (H0 : Heap) (P P' : Nat → Prop) (a d : Nat) (xs ys : List Int) (hB : Bh G H0) (h : St G P H0 a xs) (h2 : St G P' H0 d ys) {mc ms : Nat}  : zR G l yJ5_equals (ws_ yJ5_equals cJ5_equals 3 (some FieldType.boolean)) 1 22 mc ms [.ref a, .ref d] H0 (fun r _ => r = .int (iI (b2i (decide (xs = ys))))) (Pur H0) := by
  refine zR.start (cc := cJ5_equals) (by decide) (Nat.le_of_ble_eq_true rfl) ?_
  intro p e s m args below meth c Q cx hQ hmn ls hl
  have hx := cx.1
  have hb := cx.2.1
  have hS : va_S (Pur H0) H0 H0 [] := va_S.rf
  have hl : lv_has ls 3 [(0, .ref a), (1, .ref d)] := hl
  have huq : a = d → xs = ys := fun e => by subst e; exact h.uniq h2
  obtain ⟨-, hch, hn, b, -, hs, hb9⟩ := h
  obtain ⟨-, hch2, hn2, b2, -, hs2, hb2⟩ := h2
  refine lv_aload_n hx hb dJ5_equals_0 rfl (lv_at hl 0 rfl) ?_
  refine lv_aload_n hx hb dJ5_equals_1 rfl (lv_at hl 1 rfl) ?_
  refine lv_acmp_ne (rx := (some a)) (ry := (some d)) (tgt := 7) hx hb dJ5_equals_2 (by decide) (fun c2 => ?_) (fun c2 => ?_)
  · refine lv_aload_n hx hb dJ5_equals_7 rfl (lv_at hl 1 rfl) ?_
    refine z_instE cx q631 (zrecvS cx hs2) dJ5_equals_8 ?_
    refine z_if_eq cx (tgt := 54) dJ5_equals_11 (by decide) (by omega) (fun c11 => (by exfalso; omega)) (fun c11 => ?_)
    refine lv_aload_n hx hb dJ5_equals_14 rfl (lv_at hl 1 rfl) ?_
    refine va_castE hx hb cx.wn (cx.ts _ q631) (zrecvS cx hs2) dJ5_equals_15 ?_
    refine lv_astore_n (lv' := [(2, .ref d), (0, .ref a), (1, .ref d)]) hx hb dJ5_equals_18 rfl hl (by decide) rfl (fun ls hl => ?_)
    refine z_gets cx (st_cs cx.kk) hB q164 dJ5_equals_19 ?_
    refine z_if_eq cx (tgt := 36) dJ5_equals_22 (by decide) (by omega) (fun c22 => (by exfalso; omega)) (fun c22 => ?_)
    refine lv_aload_n hx hb dJ5_equals_25 rfl (lv_at hl 1 rfl) ?_
    refine z_getSc cx hs q458 dJ5_equals_26 ?_
    refine lv_aload_n hx hb dJ5_equals_29 rfl (lv_at hl 0 rfl) ?_
    refine z_getSc cx hs2 q458 dJ5_equals_30 ?_
    refine z_icmp_ne cx (tgt := 54) dJ5_equals_33 (by decide) (by omega) (fun c33 => (by exfalso; omega)) (fun c33 => ?_)
    refine lv_aload_n hx hb dJ5_equals_36 rfl (lv_at hl 1 rfl) ?_
    refine z_getSv cx hs q457 dJ5_equals_37 ?_
    refine lv_aload_n hx hb dJ5_equals_40 rfl (lv_at hl 0 rfl) ?_
    refine z_getSv cx hs2 q457 dJ5_equals_41 ?_
    refine z_callS cx (j := 2) (m_J7_equals G l _ b b2 xs ys (hb9.ext (Ext.ofS hS)) (hb2.ext (Ext.ofS hS)) hch hch2 ⟨hn, hn2⟩ (mc := 0) (ms := 0)) (lw_S q632 q633 q42 q634) (by decide +kernel) rfl (rest := []) rfl hl (Nat.le_of_ble_eq_true rfl) (by decide) (by omega) dJ5_equals_44 hS (fun q h => Nat.le_trans hS.1 h) (fun v44 H locs hp44 hz9 hk9 hS => ?_)
    have hE9 := Ext.of hz9 hk9 (fun q h => h)
    have hb44 := b2i_rg (decide (xs = ys))
    subst hp44
    refine z_if_eq cx (tgt := 54) dJ5_equals_47 (by decide) (by omega) (fun c47 => ?_) (fun c47 => ?_)
    · refine lv_iconst (v := iI (0)) hx hb dJ5_equals_54 rfl ?_
      exact z_iret cx hQ rfl rfl (by have h9 := b2i_F c47; rw [decide_eq_false h9]; rfl) hS (by omega) dJ5_equals_55
    · refine lv_iconst (v := iI (1)) hx hb dJ5_equals_50 rfl ?_
      refine lv_goto (tgt := 55) hx hb dJ5_equals_51 (by decide) ?_
      exact z_iret cx hQ rfl rfl (by have h9 := b2i_T c47; rw [decide_eq_true h9]; rfl) hS (by omega) dJ5_equals_55
  · have h9 := huq (Option.some.inj c2)
    refine lv_iconst (v := iI (1)) hx hb dJ5_equals_5 rfl ?_
    exact z_iret cx hQ rfl rfl (by rw [decide_eq_true h9]; rfl) hS (by omega) dJ5_equals_6
