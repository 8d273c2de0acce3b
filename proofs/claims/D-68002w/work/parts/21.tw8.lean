/-! ===== the model: numbers and words of a value ===== -/
set_option maxHeartbeats 4000000 in
set_option maxRecDepth 100000 in
theorem m_X4_numberIn (G : zE) (l : Launch) (H0 : Heap) (P : Nat → Prop) (a b : Nat) (cs : List Int) (lz : Lns) (nm : List Int) (ha : Tx G P H0 a cs lz) (hb9 : Ai G H0 b 101 nm) (hnm : chs nm ∧ nm.length ≤ 100000) {mc ms : Nat} (hmc : vC nm none (tln cs lz) ≤ mc) (hms : vS nm none (tln cs lz) ≤ ms) : zR G l yX4_numberIn (ws_ yX4_numberIn cX4_numberIn 3 (some FieldType.int)) 2 52 mc ms [.ref a, .ref b] H0 (fun r _ => r = .int (iI (nIn (tln cs lz) nm))) (Pur H0) := by
  refine zR.start (cc := cX4_numberIn) (by decide) (Nat.le_of_ble_eq_true rfl) ?_
  intro p e s m args below meth c Q cx hQ hmn ls hl
  have hx := cx.1
  have hb := cx.2.1
  have hS : va_S (Pur H0) H0 H0 [] := va_S.rf
  have hl : lv_has ls 3 [(0, .ref a), (1, .ref b)] := hl
  have hvo : ochs (vof (tln cs lz) nm) ∧ olen (vof (tln cs lz) nm) 30100 := by
    obtain ⟨-, _, _, _, _, _, _, _, -, -, -, -, -, -, hl9, hch, hcl, -⟩ := ha
    exact vof_ok hch hcl hl9.2.2.2
  refine lv_aload_n hx hb dX4_numberIn_0 rfl (lv_at hl 0 rfl) ?_
  refine lv_aload_n hx hb dX4_numberIn_1 rfl (lv_at hl 1 rfl) ?_
  refine z_callS cx (j := 2) (m_X4_valueOf G l _ P a b cs lz nm (ha.ext (Ext.ofS hS)) (hb9.ext (Ext.ofS hS)) hnm (mc := vC nm none (tln cs lz)) (ms := vS nm none (tln cs lz)) (Nat.le_refl _) (Nat.le_refl _)) (lw_S q1220 q1221 q57 q1222) (by decide +kernel) rfl (rest := []) rfl hl (Nat.le_of_ble_eq_true rfl) (by decide) (by omega) dX4_numberIn_2 hS (fun q h => Nat.le_trans hS.1 h) (fun v2 H locs hp2 hz9 hk9 hS => ?_)
  have hE9 := Ext.of hz9 hk9 (fun q h => h)
  obtain ⟨r0, rfl, hR⟩ := hp2
  cases hv : vof (tln cs lz) nm with
  | none =>
    rw [hv] at hR
    have hr9 := hR.n
    subst hr9
    refine lv_astore_nN (lv' := [(2, .null), (0, .ref a), (1, .ref b)]) hx hb dX4_numberIn_5 rfl hl (by decide) rfl (fun ls hl => ?_)
    refine lv_aload_nN hx hb dX4_numberIn_6 rfl (lv_at hl 0 rfl) ?_
    refine lv_ifnonnullN hx hb dX4_numberIn_7 ?_
    refine lv_iconst (v := iI (-1)) hx hb dX4_numberIn_10 rfl ?_
    refine lv_goto (tgt := 19) hx hb dX4_numberIn_11 (by decide) ?_
    exact z_iret cx hQ rfl rfl (by rw [nIn, hv]) hS (by omega) dX4_numberIn_19
  | some v =>
    rw [hv] at hR
    obtain ⟨w, hr9, -, hw⟩ := hR.s
    subst hr9
    refine lv_astore_n (lv' := [(2, .ref w), (0, .ref a), (1, .ref b)]) hx hb dX4_numberIn_5 rfl hl (by decide) rfl (fun ls hl => ?_)
    refine lv_aload_n hx hb dX4_numberIn_6 rfl (lv_at hl 0 rfl) ?_
    refine lv_ifnonnull (tgt := 14) hx hb dX4_numberIn_7 (by decide) ?_
    refine lv_aload_n hx hb dX4_numberIn_14 rfl (lv_at hl 0 rfl) ?_
    refine lv_iconst (v := iI (0)) hx hb dX4_numberIn_15 rfl ?_
    refine z_callS cx (j := 2) (m_X4_numberOf G l _ w v 0 hw (hvo.1 v hv) ⟨Nat.zero_le _, Nat.le_trans (hvo.2 v hv) (by omega)⟩ (mc := 0) (ms := 0)) (lw_S q1264 q1265 q57 q1266) (by decide +kernel) rfl (rest := []) rfl hl (Nat.le_of_ble_eq_true rfl) (by decide) (by omega) dX4_numberIn_16 hS (fun q h => Nat.le_trans hS.1 h) (fun v16 H locs hp16 hz9 hk9 hS => ?_)
    have hE9 := Ext.of hz9 hk9 (fun q h => h)
    have hw := hw.ext hE9
    subst hp16
    exact z_iret cx hQ rfl rfl (by rw [nIn, hv, List.drop_zero]) hS (by omega) dX4_numberIn_19
set_option maxHeartbeats 4000000 in
set_option maxRecDepth 100000 in
theorem m_X4_word_n (G : zE) (l : Launch) (H0 : Heap) (b : Nat) (nm : List Int) {mc ms : Nat}  : zR G l yX4_word (ws_ yX4_word cX4_word 9 (some FieldType.int)) 3 63 mc ms [.null, .ref b] H0 (fun r _ => r = .int (iI (wrd none nm))) (Pur H0) := by
  refine zR.start (cc := cX4_word) (by decide) (Nat.le_of_ble_eq_true rfl) ?_
  intro p e s m args below meth c Q cx hQ hmn ls hl
  have hx := cx.1
  have hb := cx.2.1
  have hS : va_S (Pur H0) H0 H0 [] := va_S.rf
  have hl : lv_has ls 9 [(0, .null), (1, .ref b)] := hl
  refine lv_bipush (v := iI (-2)) hx hb dX4_word_0 (by decide) ?_
  refine lv_istore_n (lv' := [(2, .int (iI (-2))), (0, .null), (1, .ref b)]) hx hb dX4_word_2 rfl hl (by decide) rfl (fun ls hl => ?_)
  refine lv_aload_nN hx hb dX4_word_3 rfl (lv_at hl 1 rfl) ?_
  refine lv_ifnonnullN hx hb dX4_word_4 ?_
  refine lv_iload_n hx hb dX4_word_7 rfl (lv_at hl 0 rfl) ?_
  exact z_iret cx hQ rfl rfl rfl hS (by omega) dX4_word_8
set_option maxHeartbeats 4000000 in
set_option maxRecDepth 100000 in
theorem m_X4_word_s (G : zE) (l : Launch) (H0 : Heap) (a b : Nat) (v nm : List Int) (ha : Ai G H0 a 101 v) (hb9 : Ai G H0 b 101 nm) (hcv : chs v ∧ v.length ≤ 40000) (hnm : chs nm ∧ nm.length ≤ 100000) {mc ms : Nat} (hmc : 2 * v.length + 4 ≤ mc) (hms : 3 * v.length + 3 ≤ ms) : zR G l yX4_word (ws_ yX4_word cX4_word 9 (some FieldType.int)) 3 63 mc ms [.ref a, .ref b] H0 (fun r _ => r = .int (iI (wrd (some v) nm))) (Pur H0) := by
  refine zR.start (cc := cX4_word) (by decide) (Nat.le_of_ble_eq_true rfl) ?_
  intro p e s m args below meth c Q cx hQ hmn ls hl
  have hx := cx.1
  have hb := cx.2.1
  have hS : va_S (Pur H0) H0 H0 [] := va_S.rf
  have hl : lv_has ls 9 [(0, .ref a), (1, .ref b)] := hl
  have hln := lst_len v
  have hsm := lst_sum v
  refine lv_bipush (v := iI (-2)) hx hb dX4_word_0 (by decide) ?_
  refine lv_istore_n (lv' := [(2, .int (iI (-2))), (0, .ref a), (1, .ref b)]) hx hb dX4_word_2 rfl hl (by decide) rfl (fun ls hl => ?_)
  refine lv_aload_n hx hb dX4_word_3 rfl (lv_at hl 1 rfl) ?_
  refine lv_ifnonnull (tgt := 9) hx hb dX4_word_4 (by decide) ?_
  refine lv_aload_n hx hb dX4_word_9 rfl (lv_at hl 1 rfl) ?_
  refine z_callS cx (j := 1) (m_X4_list G l _ a v (ha.ext (Ext.ofS hS)) hcv.1 hcv.2 (mc := v.length + 3) (ms := 2 * v.length + 2) (Nat.le_refl _) (Nat.le_refl _)) (lw_S q1239 q1240 q57 q1241) (by decide +kernel) rfl (rest := []) rfl hl (Nat.le_of_ble_eq_true rfl) (by decide) (by omega) dX4_word_10 hS (fun q h => Nat.le_trans hS.1 h) (fun v10 H locs hp10 hz9 hk9 hS => ?_)
  have hE9 := Ext.of hz9 hk9 (fun q h => h)
  obtain ⟨u, rfl, hu⟩ := hp10
  obtain ⟨rs, -, hAu, hOu⟩ := hu.ors
  have hlr : rs.length = (lst v).length := by rw [hOu.1, List.length_map]
  refine lv_astore_n (lv' := [(3, .ref u), (2, .int (iI (-2))), (0, .ref a), (1, .ref b)]) hx hb dX4_word_13 rfl hl (by decide) rfl (fun ls hl => ?_)
  refine lv_iconst (v := iI (0)) hx hb dX4_word_14 rfl ?_
  refine lv_istore (lv' := [(4, .int (iI 0)), (3, .ref u), (2, .int (iI (-2))), (0, .ref a), (1, .ref b)]) hx hb dX4_word_15 hl (by decide) rfl (fun ls hl => ?_)
  have lp : ∀ (fuel : Nat) (u j : Nat) (f : Int) (rs : List (Option Nat)), ((lst v).length - j) < fuel → (j ≤ (lst v).length) → (rs.length = (lst v).length) → (wrd (some v) nm = ((lst v).drop j).foldl (wStep nm) f) → ∀ (H : Heap) (locs : List Loc) (ls : Array Slot) (k n : Nat), va_S (Pur H0) H0 H locs → Aq G H u 105 rs → (Ors G (fun q => H0.size ≤ q) H rs ((lst v).map some)) → (k + ((lst v).length - j) ≤ mc) → (n + (((lst v).drop j).map List.length).sum ≤ ms) → lv_has ls 9 [(1, .ref b), (2, .int (iI f)), (3, .ref u), (4, .int (iI ↑j))] → W p l e ⟨3, mc, ms, 63⟩ s m args below meth c H locs k n Q (F0 m 17 ls []) := by
    intro fuel
    induction fuel with
    | zero => intro u j f rs hf9; exact absurd hf9 (Nat.not_lt_zero _)
    | succ fuel ih_lp =>
      intro u j f rs hf9 hj hlr hf H locs ls k n hS hAu hOu hr1 hr2 hl
      refine lv_iload hx hb dX4_word_17 (lv_at hl 3 rfl) ?_
      refine lv_aload_n hx hb dX4_word_19 rfl (lv_at hl 2 rfl) ?_
      refine z_alenQ cx (t0 := 5) hAu rfl dX4_word_20 ?_
      refine z_icmp_ge cx (tgt := 176) dX4_word_21 (by decide) (by omega) (fun c21 => ?_) (fun c21 => ?_)
      · rw [List.drop_eq_nil_of_le (by omega)] at hf
        refine lv_iload_n hx hb dX4_word_176 rfl (lv_at hl 1 rfl) ?_
        exact z_iret cx hQ rfl rfl (by rw [hf]; rfl) hS (by omega) dX4_word_177
      · refine lv_aload_n hx hb dX4_word_24 rfl (lv_at hl 2 rfl) ?_
        refine lv_iload hx hb dX4_word_25 (lv_at hl 3 rfl) ?_
        refine z_aald cx (t0 := 5) hAu rfl rfl (j) (by omega) dX4_word_27 (fun x27 hx27 => ?_)
        have hjx : j < (lst v).length := by omega
        have ex : (lst v)[j]? = some (lst v)[j] := List.getElem?_eq_getElem hjx
        generalize hX : (lst v)[j] = X at ex
        have hXm : X ∈ lst v := List.mem_of_getElem? ex
        have hXc := lst_chs hcv.1 X hXm
        have hXl := lst_mem_len hXm
        rw [sum_drop ex] at hr2
        rw [fold_drop ex] at hf
        obtain ⟨x, rfl, -, hAx⟩ := (hOu.2 j x27 (some X) hx27 (by rw [List.getElem?_map, ex]; rfl)).s
        refine z_callS cx (j := 1) (m_X4_smallOf G l _ x X hAx hXc (by omega) (mc := 1) (ms := X.length) (Nat.le_refl _) (Nat.le_refl _)) (lw_S q1261 q1262 q57 q1263) (by decide +kernel) rfl (rest := []) rfl hl (Nat.le_of_ble_eq_true rfl) (by decide) (by omega) dX4_word_28 hS (fun q h => Nat.le_trans hS.1 h) (fun v28 H locs hp28 hz9 hk9 hS => ?_)
        have hE9 := Ext.of hz9 hk9 (fun q h => h)
        obtain ⟨w, rfl, -, Aw⟩ := hp28
        have hAu := hAu.ext hE9
        have hOu := hOu.kp (Kp.ext hE9)
        generalize hO9 : X.map smI = one at Aw
        have hoc : chs one := by rw [← hO9]; exact chs_map hXc
        have hol : one.length = X.length := by rw [← hO9, List.length_map]
        have hst : wStep nm f X = wOne nm f one := by rw [wStep, hO9]
        rw [hst] at hf
        have l125 : ∀ (fuel : Nat) (i : Nat) (z : Int), 0 < fuel → (i = eqi one) → (z = b2i (decide (isW nm one))) → ∀ (H : Heap) (locs : List Loc) (ls : Array Slot) (k n : Nat), va_S (Pur H0) H0 H locs → Aq G H u 105 rs → Ai G H w 101 one → (Ors G (fun q => H0.size ≤ q) H rs ((lst v).map some)) → (k + ((lst v).length - (j + 1)) ≤ mc) → (n + (((lst v).drop (j + 1)).map List.length).sum ≤ ms) → lv_has ls 9 [(1, .ref b), (2, .int (iI f)), (3, .ref u), (4, .int (iI ↑j)), (5, .ref w), (6, .int (iI ↑i)), (7, .int (iI z))] → W p l e ⟨3, mc, ms, 63⟩ s m args below meth c H locs k n Q (F0 m 125 ls []) := by
          intro fuel
          induction fuel with
          | zero => intro i z hf9; exact absurd hf9 (Nat.not_lt_zero _)
          | succ fuel ih_l125 =>
            intro i z hf9 hi hz H locs ls k n hS hAu Aw hOu hr1 hr2 hl
            have hzr := b2i_rg (decide (isW nm one))
            have hil := eqi_le one
            refine lv_iload hx hb dX4_word_125 (lv_at hl 6 rfl) ?_
            refine z_if_eq cx (tgt := 143) dX4_word_127 (by decide) (by omega) (fun c127 => ?_) (fun c127 => ?_)
            · rw [hz] at c127
              have hno := b2i_F c127
              refine lv_iload hx hb dX4_word_143 (lv_at hl 6 rfl) ?_
              refine z_if_eq cx (tgt := 170) dX4_word_145 (by decide) (by omega) (fun c145 => ?_) (fun c145 => (by exfalso; exact absurd (hz.trans c127) c145))
              refine z_iinc cx (j := 3) (z := ((j + 1 : Nat) : Int)) (lv' := [(4, .int (iI ((j + 1 : Nat) : Int))), (1, .ref b), (2, .int (iI f)), (3, .ref u), (5, .ref w), (6, .int (iI ↑i)), (7, .int (iI z))]) dX4_word_170 hl rfl (by omega) (by decide) rfl (fun ls hl => ?_)
              refine lv_goto (tgt := 17) hx hb dX4_word_173 (by decide) ?_
              exact ih_lp u (j + 1) f rs (by omega) (by omega) hlr (by rw [hf, wOne, if_neg hno]) _ _ _ _ _ hS hAu hOu (by omega) (by omega) (lv_sub hl [1, 2, 3, 0] rfl)
            · rw [hz] at c127
              have hyes := b2i_T c127
              refine lv_iload hx hb dX4_word_130 (lv_at hl 5 rfl) ?_
              refine lv_aload hx hb dX4_word_132 (lv_at hl 4 rfl) ?_
              refine z_alen cx Aw dX4_word_134 ?_
              refine z_icmp_ne cx (tgt := 143) dX4_word_135 (by decide) (by omega) (fun c135 => ?_) (fun c135 => ?_)
              · have hr9 := numOf_rg (one.drop (i + 1))
                refine lv_iload hx hb dX4_word_143 (lv_at hl 6 rfl) ?_
                refine z_if_eq cx (tgt := 170) dX4_word_145 (by decide) (by omega) (fun c145 => (by exfalso; exact c127 (hz ▸ c145))) (fun c145 => ?_)
                refine lv_aload hx hb dX4_word_148 (lv_at hl 4 rfl) ?_
                refine lv_iload hx hb dX4_word_150 (lv_at hl 5 rfl) ?_
                refine lv_iconst (v := iI (1)) hx hb dX4_word_152 rfl ?_
                refine z_iadd cx (z := ((i + 1 : Nat) : Int)) dX4_word_153 (by omega) ?_
                refine z_callS cx (j := 2) (m_X4_numberOf G l _ w one (i + 1) Aw hoc (by omega) (mc := 0) (ms := 0)) (lw_S q1264 q1265 q57 q1266) (by decide +kernel) rfl (rest := []) rfl hl (Nat.le_of_ble_eq_true rfl) (by decide) (by omega) dX4_word_154 hS (fun q h => Nat.le_trans hS.1 h) (fun v154 H locs hp154 hz9 hk9 hS => ?_)
                have hE9 := Ext.of hz9 hk9 (fun q h => h)
                have hAu := hAu.ext hE9
                have Aw := Aw.ext hE9
                subst hp154
                have hOu := hOu.kp (Kp.ext hE9)
                refine z_if_lt cx (tgt := 170) dX4_word_157 (by decide) (by omega) (fun c157 => ?_) (fun c157 => ?_)
                · refine z_iinc cx (j := 3) (z := ((j + 1 : Nat) : Int)) (lv' := [(4, .int (iI ((j + 1 : Nat) : Int))), (1, .ref b), (2, .int (iI f)), (3, .ref u), (5, .ref w), (6, .int (iI ↑i)), (7, .int (iI z))]) dX4_word_170 hl rfl (by omega) (by decide) rfl (fun ls hl => ?_)
                  refine lv_goto (tgt := 17) hx hb dX4_word_173 (by decide) ?_
                  exact ih_lp u (j + 1) f rs (by omega) (by omega) hlr (by rw [hf, wOne, if_pos hyes, if_neg (by omega), ← hi, if_neg (by omega)]) _ _ _ _ _ hS hAu hOu (by omega) (by omega) (lv_sub hl [1, 2, 3, 0] rfl)
                · refine lv_aload hx hb dX4_word_160 (lv_at hl 4 rfl) ?_
                  refine lv_iload hx hb dX4_word_162 (lv_at hl 5 rfl) ?_
                  refine lv_iconst (v := iI (1)) hx hb dX4_word_164 rfl ?_
                  refine z_iadd cx (z := ((i + 1 : Nat) : Int)) dX4_word_165 (by omega) ?_
                  refine z_callS cx (j := 2) (m_X4_numberOf G l _ w one (i + 1) Aw hoc (by omega) (mc := 0) (ms := 0)) (lw_S q1264 q1265 q57 q1266) (by decide +kernel) rfl (rest := []) rfl hl (Nat.le_of_ble_eq_true rfl) (by decide) (by omega) dX4_word_166 hS (fun q h => Nat.le_trans hS.1 h) (fun v166 H locs hp166 hz9 hk9 hS => ?_)
                  have hE9 := Ext.of hz9 hk9 (fun q h => h)
                  have hAu := hAu.ext hE9
                  have Aw := Aw.ext hE9
                  subst hp166
                  have hOu := hOu.kp (Kp.ext hE9)
                  refine lv_istore_n (lv' := [(2, .int (iI (numOf (one.drop (i + 1))))), (1, .ref b), (3, .ref u), (4, .int (iI ↑j)), (5, .ref w), (6, .int (iI ↑i)), (7, .int (iI z))]) hx hb dX4_word_169 rfl hl (by decide) rfl (fun ls hl => ?_)
                  refine z_iinc cx (j := 3) (z := ((j + 1 : Nat) : Int)) (lv' := [(4, .int (iI ((j + 1 : Nat) : Int))), (2, .int (iI (numOf (one.drop (i + 1))))), (1, .ref b), (3, .ref u), (5, .ref w), (6, .int (iI ↑i)), (7, .int (iI z))]) dX4_word_170 hl rfl (by omega) (by decide) rfl (fun ls hl => ?_)
                  refine lv_goto (tgt := 17) hx hb dX4_word_173 (by decide) ?_
                  exact ih_lp u (j + 1) (numOf (one.drop (i + 1))) rs (by omega) (by omega) hlr (by rw [hf, wOne, if_pos hyes, if_neg (by omega), ← hi, if_pos (by omega)]) _ _ _ _ _ hS hAu hOu (by omega) (by omega) (lv_sub hl [2, 1, 3, 0] rfl)
              · refine lv_iconst (v := iI (-1)) hx hb dX4_word_138 rfl ?_
                refine lv_istore_n (lv' := [(2, .int (iI (-1))), (1, .ref b), (3, .ref u), (4, .int (iI ↑j)), (5, .ref w), (6, .int (iI ↑i)), (7, .int (iI z))]) hx hb dX4_word_139 rfl hl (by decide) rfl (fun ls hl => ?_)
                refine lv_goto (tgt := 170) hx hb dX4_word_140 (by decide) ?_
                refine z_iinc cx (j := 3) (z := ((j + 1 : Nat) : Int)) (lv' := [(4, .int (iI ((j + 1 : Nat) : Int))), (2, .int (iI (-1))), (1, .ref b), (3, .ref u), (5, .ref w), (6, .int (iI ↑i)), (7, .int (iI z))]) dX4_word_170 hl rfl (by omega) (by decide) rfl (fun ls hl => ?_)
                refine lv_goto (tgt := 17) hx hb dX4_word_173 (by decide) ?_
                exact ih_lp u (j + 1) (-1) rs (by omega) (by omega) hlr (by rw [hf, wOne, if_pos hyes, if_pos (by omega)]) _ _ _ _ _ hS hAu hOu (by omega) (by omega) (lv_sub hl [2, 1, 3, 0] rfl)
        have l88 : ∀ (fuel : Nat) (i h : Nat) (z : Int), (i - h) < fuel → (i = eqi one) → (h ≤ i) → (z = b2i (decide (i = nm.length ∧ isNm (one.take i) = true ∧ one.take h = nm.take h))) → ∀ (H : Heap) (locs : List Loc) (ls : Array Slot) (k n : Nat), va_S (Pur H0) H0 H locs → Aq G H u 105 rs → Ai G H w 101 one → (Ors G (fun q => H0.size ≤ q) H rs ((lst v).map some)) → (k + ((lst v).length - (j + 1)) ≤ mc) → (n + (((lst v).drop (j + 1)).map List.length).sum ≤ ms) → lv_has ls 9 [(1, .ref b), (2, .int (iI f)), (3, .ref u), (4, .int (iI ↑j)), (5, .ref w), (6, .int (iI ↑i)), (7, .int (iI z)), (8, .int (iI ↑h))] → W p l e ⟨3, mc, ms, 63⟩ s m args below meth c H locs k n Q (F0 m 88 ls []) := by
          intro fuel
          induction fuel with
          | zero => intro i h z hf9; exact absurd hf9 (Nat.not_lt_zero _)
          | succ fuel ih_l88 =>
            intro i h z hf9 hi hh hz H locs ls k n hS hAu Aw hOu hr1 hr2 hl
            have hzr := b2i_rg (decide (i = nm.length ∧ isNm (one.take i) = true ∧ one.take h = nm.take h))
            have hil := eqi_le one
            refine lv_iload hx hb dX4_word_88 (lv_at hl 7 rfl) ?_
            refine lv_iload hx hb dX4_word_90 (lv_at hl 5 rfl) ?_
            refine z_icmp_ge cx (tgt := 125) dX4_word_92 (by decide) (by omega) (fun c92 => ?_) (fun c92 => ?_)
            · have hhi : h = i := by omega
              rw [hhi] at hz
              exact l125 _ i z (Nat.lt_succ_self _) hi (by rw [hz]; refine b2i_dec ⟨fun q => ⟨by rw [← hi]; exact q.2.1, by rw [← hi, q.2.2, q.1, List.take_length]⟩, fun q => ?_⟩; obtain ⟨q1, q2⟩ := q; rw [← hi] at q1 q2; exact ⟨by rw [← q2, List.length_take]; omega, q1, by rw [← q2, List.take_take, Nat.min_self]⟩) _ _ _ _ _ hS hAu Aw hOu (by omega) (by omega) (lv_sub hl [0, 1, 2, 3, 4, 5, 6] rfl)
            · refine lv_iload hx hb dX4_word_95 (lv_at hl 6 rfl) ?_
              refine z_if_eq cx (tgt := 125) dX4_word_97 (by decide) (by omega) (fun c97 => ?_) (fun c97 => ?_)
              · rw [hz] at c97
                have hno := b2i_F c97
                exact l125 _ i z (Nat.lt_succ_self _) hi (by rw [hz, c97]; refine b2i_q (fun q => hno ?_); obtain ⟨q1, q2⟩ := q; rw [← hi] at q1 q2; exact ⟨by rw [← q2, List.length_take]; omega, q1, by rw [← q2, List.take_take, Nat.min_eq_left (by omega)]⟩) _ _ _ _ _ hS hAu Aw hOu (by omega) (by omega) (lv_sub hl [0, 1, 2, 3, 4, 5, 6] rfl)
              · rw [hz] at c97
                have hyes := b2i_T c97
                have hilen := hyes.1
                refine lv_aload hx hb dX4_word_100 (lv_at hl 4 rfl) ?_
                refine lv_iload hx hb dX4_word_102 (lv_at hl 7 rfl) ?_
                refine z_iald cx Aw (h) (by omega) dX4_word_104 (fun x104 hx104 => ?_)
                have bx104 := hoc _ (List.mem_of_getElem? hx104)
                refine lv_aload_n hx hb dX4_word_105 rfl (lv_at hl 0 rfl) ?_
                refine lv_iload hx hb dX4_word_106 (lv_at hl 7 rfl) ?_
                refine z_iald cx (hb9.ext (Ext.ofS hS)) (h) (by omega) dX4_word_108 (fun x108 hx108 => ?_)
                have bx108 := hnm.1 _ (List.mem_of_getElem? hx108)
                refine z_icmp_ne cx (tgt := 116) dX4_word_109 (by decide) (by omega) (fun c109 => ?_) (fun c109 => ?_)
                · have hte := take_eq hx104 hx108
                  refine lv_iconst (v := iI (0)) hx hb dX4_word_116 rfl ?_
                  refine lv_istore (lv' := [(7, .int (iI 0)), (1, .ref b), (2, .int (iI f)), (3, .ref u), (4, .int (iI ↑j)), (5, .ref w), (6, .int (iI ↑i)), (8, .int (iI ↑h))]) hx hb dX4_word_117 hl (by decide) rfl (fun ls hl => ?_)
                  refine z_iinc cx (j := 7) (z := ((h + 1 : Nat) : Int)) (lv' := [(8, .int (iI ((h + 1 : Nat) : Int))), (7, .int (iI 0)), (1, .ref b), (2, .int (iI f)), (3, .ref u), (4, .int (iI ↑j)), (5, .ref w), (6, .int (iI ↑i))]) dX4_word_119 hl rfl (by omega) (by decide) rfl (fun ls hl => ?_)
                  refine lv_goto (tgt := 88) hx hb dX4_word_122 (by decide) ?_
                  exact ih_l88 i (h + 1) 0 (by omega) hi (by omega) (b2i_q (fun q => c109 (hte.mp q.2.2).2)) _ _ _ _ _ hS hAu Aw hOu (by omega) (by omega) (lv_sub hl [2, 3, 4, 5, 6, 7, 1, 0] rfl)
                · have hte := take_eq hx104 hx108
                  refine lv_iconst (v := iI (1)) hx hb dX4_word_112 rfl ?_
                  refine lv_goto (tgt := 117) hx hb dX4_word_113 (by decide) ?_
                  refine lv_istore (lv' := [(7, .int (iI 1)), (1, .ref b), (2, .int (iI f)), (3, .ref u), (4, .int (iI ↑j)), (5, .ref w), (6, .int (iI ↑i)), (8, .int (iI ↑h))]) hx hb dX4_word_117 hl (by decide) rfl (fun ls hl => ?_)
                  refine z_iinc cx (j := 7) (z := ((h + 1 : Nat) : Int)) (lv' := [(8, .int (iI ((h + 1 : Nat) : Int))), (7, .int (iI 1)), (1, .ref b), (2, .int (iI f)), (3, .ref u), (4, .int (iI ↑j)), (5, .ref w), (6, .int (iI ↑i))]) dX4_word_119 hl rfl (by omega) (by decide) rfl (fun ls hl => ?_)
                  refine lv_goto (tgt := 88) hx hb dX4_word_122 (by decide) ?_
                  exact ih_l88 i (h + 1) 1 (by omega) hi (by omega) (b2i_p ⟨hyes.1, hyes.2.1, hte.mpr ⟨hyes.2.2, c109⟩⟩) _ _ _ _ _ hS hAu Aw hOu (by omega) (by omega) (lv_sub hl [2, 3, 4, 5, 6, 7, 1, 0] rfl)
        have l60 : ∀ (fuel : Nat) (i : Nat), 0 < fuel → (i = eqi one) → ∀ (H : Heap) (locs : List Loc) (ls : Array Slot) (k n : Nat), va_S (Pur H0) H0 H locs → Aq G H u 105 rs → Ai G H w 101 one → (Ors G (fun q => H0.size ≤ q) H rs ((lst v).map some)) → (k + ((lst v).length - (j + 1)) ≤ mc) → (n + (((lst v).drop (j + 1)).map List.length).sum ≤ ms) → lv_has ls 9 [(1, .ref b), (2, .int (iI f)), (3, .ref u), (4, .int (iI ↑j)), (5, .ref w), (6, .int (iI ↑i))] → W p l e ⟨3, mc, ms, 63⟩ s m args below meth c H locs k n Q (F0 m 60 ls []) := by
          intro fuel
          induction fuel with
          | zero => intro i hf9; exact absurd hf9 (Nat.not_lt_zero _)
          | succ fuel ih_l60 =>
            intro i hf9 hi H locs ls k n hS hAu Aw hOu hr1 hr2 hl
            have hil := eqi_le one
            refine lv_iload hx hb dX4_word_60 (lv_at hl 5 rfl) ?_
            refine lv_aload_n hx hb dX4_word_62 rfl (lv_at hl 0 rfl) ?_
            refine z_alen cx (hb9.ext (Ext.ofS hS)) dX4_word_63 ?_
            refine z_icmp_ne cx (tgt := 82) dX4_word_64 (by decide) (by omega) (fun c64 => ?_) (fun c64 => ?_)
            · refine lv_iconst (v := iI (0)) hx hb dX4_word_82 rfl ?_
              refine lv_istore (lv' := [(7, .int (iI 0)), (1, .ref b), (2, .int (iI f)), (3, .ref u), (4, .int (iI ↑j)), (5, .ref w), (6, .int (iI ↑i))]) hx hb dX4_word_83 hl (by decide) rfl (fun ls hl => ?_)
              refine lv_iconst (v := iI (0)) hx hb dX4_word_85 rfl ?_
              refine lv_istore (lv' := [(8, .int (iI 0)), (7, .int (iI 0)), (1, .ref b), (2, .int (iI f)), (3, .ref u), (4, .int (iI ↑j)), (5, .ref w), (6, .int (iI ↑i))]) hx hb dX4_word_86 hl (by decide) rfl (fun ls hl => ?_)
              exact l88 _ i 0 0 (Nat.lt_succ_self _) hi (by omega) (b2i_q (fun q => c64 (by rw [q.1]))) _ _ _ _ _ hS hAu Aw hOu (by omega) (by omega) (lv_sub hl [2, 3, 4, 5, 6, 7, 1, 0] rfl)
            · refine lv_aload hx hb dX4_word_67 (lv_at hl 4 rfl) ?_
              refine lv_iconst (v := iI (0)) hx hb dX4_word_69 rfl ?_
              refine lv_iload hx hb dX4_word_70 (lv_at hl 5 rfl) ?_
              refine z_callS cx (j := 3) (m_X4_isName G l _ w one 0 i Aw hoc (by omega) (mc := 0) (ms := 0)) (lw_S q1200 q1201 q57 q1202) (by decide +kernel) rfl (rest := []) rfl hl (Nat.le_of_ble_eq_true rfl) (by decide) (by omega) dX4_word_72 hS (fun q h => Nat.le_trans hS.1 h) (fun v72 H locs hp72 hz9 hk9 hS => ?_)
              have hE9 := Ext.of hz9 hk9 (fun q h => h)
              have hAu := hAu.ext hE9
              have Aw := Aw.ext hE9
              have hb72 := b2i_rg (isNm (sl one 0 i))
              subst hp72
              have hOu := hOu.kp (Kp.ext hE9)
              rw [sl_0] at hb72
              refine z_if_eq cx (tgt := 82) dX4_word_75 (by decide) (by rw [sl_0]; omega) (fun c75 => ?_) (fun c75 => ?_)
              · rw [sl_0] at c75
                refine lv_iconst (v := iI (0)) hx hb dX4_word_82 rfl ?_
                refine lv_istore (lv' := [(7, .int (iI 0)), (1, .ref b), (2, .int (iI f)), (3, .ref u), (4, .int (iI ↑j)), (5, .ref w), (6, .int (iI ↑i))]) hx hb dX4_word_83 hl (by decide) rfl (fun ls hl => ?_)
                refine lv_iconst (v := iI (0)) hx hb dX4_word_85 rfl ?_
                refine lv_istore (lv' := [(8, .int (iI 0)), (7, .int (iI 0)), (1, .ref b), (2, .int (iI f)), (3, .ref u), (4, .int (iI ↑j)), (5, .ref w), (6, .int (iI ↑i))]) hx hb dX4_word_86 hl (by decide) rfl (fun ls hl => ?_)
                exact l88 _ i 0 0 (Nat.lt_succ_self _) hi (by omega) (b2i_q (fun q => by rw [q.2.1] at c75; exact absurd c75 (by decide))) _ _ _ _ _ hS hAu Aw hOu (by omega) (by omega) (lv_sub hl [2, 3, 4, 5, 6, 7, 1, 0] rfl)
              · rw [sl_0] at c75
                refine lv_iconst (v := iI (1)) hx hb dX4_word_78 rfl ?_
                refine lv_goto (tgt := 83) hx hb dX4_word_79 (by decide) ?_
                refine lv_istore (lv' := [(7, .int (iI 1)), (1, .ref b), (2, .int (iI f)), (3, .ref u), (4, .int (iI ↑j)), (5, .ref w), (6, .int (iI ↑i))]) hx hb dX4_word_83 hl (by decide) rfl (fun ls hl => ?_)
                refine lv_iconst (v := iI (0)) hx hb dX4_word_85 rfl ?_
                refine lv_istore (lv' := [(8, .int (iI 0)), (7, .int (iI 1)), (1, .ref b), (2, .int (iI f)), (3, .ref u), (4, .int (iI ↑j)), (5, .ref w), (6, .int (iI ↑i))]) hx hb dX4_word_86 hl (by decide) rfl (fun ls hl => ?_)
                exact l88 _ i 0 1 (Nat.lt_succ_self _) hi (by omega) (b2i_p ⟨by omega, by cases hq : isNm (one.take i) with | true => rfl | false => rw [hq] at c75; exact absurd b2i_f c75, rfl⟩) _ _ _ _ _ hS hAu Aw hOu (by omega) (by omega) (lv_sub hl [2, 3, 4, 5, 6, 7, 1, 0] rfl)
        refine lv_astore (lv' := [(5, .ref w), (1, .ref b), (2, .int (iI f)), (3, .ref u), (4, .int (iI ↑j))]) hx hb dX4_word_31 hl (by decide) rfl (fun ls hl => ?_)
        refine lv_iconst (v := iI (0)) hx hb dX4_word_33 rfl ?_
        refine lv_istore (lv' := [(6, .int (iI 0)), (5, .ref w), (1, .ref b), (2, .int (iI f)), (3, .ref u), (4, .int (iI ↑j))]) hx hb dX4_word_34 hl (by decide) rfl (fun ls hl => ?_)
        have l36 : ∀ (fuel : Nat) (i : Nat), (one.length - i) < fuel → (i ≤ one.length) → (∀ c ∈ one.take i, c ≠ 61) → ∀ (H : Heap) (locs : List Loc) (ls : Array Slot) (k n : Nat), va_S (Pur H0) H0 H locs → Aq G H u 105 rs → Ai G H w 101 one → (Ors G (fun q => H0.size ≤ q) H rs ((lst v).map some)) → (k + ((lst v).length - (j + 1)) ≤ mc) → (n + (((lst v).drop (j + 1)).map List.length).sum ≤ ms) → lv_has ls 9 [(1, .ref b), (2, .int (iI f)), (3, .ref u), (4, .int (iI ↑j)), (5, .ref w), (6, .int (iI ↑i))] → W p l e ⟨3, mc, ms, 63⟩ s m args below meth c H locs k n Q (F0 m 36 ls []) := by
          intro fuel
          induction fuel with
          | zero => intro i hf9; exact absurd hf9 (Nat.not_lt_zero _)
          | succ fuel ih_l36 =>
            intro i hf9 hi hne H locs ls k n hS hAu Aw hOu hr1 hr2 hl
            refine lv_iload hx hb dX4_word_36 (lv_at hl 5 rfl) ?_
            refine lv_aload hx hb dX4_word_38 (lv_at hl 4 rfl) ?_
            refine z_alen cx Aw dX4_word_40 ?_
            refine z_icmp_ge cx (tgt := 60) dX4_word_41 (by decide) (by omega) (fun c41 => ?_) (fun c41 => ?_)
            · exact l60 _ i (Nat.lt_succ_self _) (eqi_of hne hi (Or.inl (by omega))).symm _ _ _ _ _ hS hAu Aw hOu (by omega) (by omega) (lv_sub hl [0, 1, 2, 3, 4, 5] rfl)
            · refine lv_aload hx hb dX4_word_44 (lv_at hl 4 rfl) ?_
              refine lv_iload hx hb dX4_word_46 (lv_at hl 5 rfl) ?_
              refine z_iald cx Aw (i) (by omega) dX4_word_48 (fun x48 hx48 => ?_)
              have bx48 := hoc _ (List.mem_of_getElem? hx48)
              refine lv_bipush (v := iI (61)) hx hb dX4_word_49 (by decide) ?_
              refine z_icmp_eq cx (tgt := 60) dX4_word_51 (by decide) (by omega) (fun c51 => ?_) (fun c51 => ?_)
              · rw [c51] at hx48
                exact l60 _ i (Nat.lt_succ_self _) (eqi_of hne hi (Or.inr hx48)).symm _ _ _ _ _ hS hAu Aw hOu (by omega) (by omega) (lv_sub hl [0, 1, 2, 3, 4, 5] rfl)
              · refine z_iinc cx (j := 5) (z := ((i + 1 : Nat) : Int)) (lv' := [(6, .int (iI ((i + 1 : Nat) : Int))), (1, .ref b), (2, .int (iI f)), (3, .ref u), (4, .int (iI ↑j)), (5, .ref w)]) dX4_word_54 hl rfl (by omega) (by decide) rfl (fun ls hl => ?_)
                refine lv_goto (tgt := 36) hx hb dX4_word_57 (by decide) ?_
                exact ih_l36 (i + 1) (by omega) (by omega) (by obtain ⟨q1, q2⟩ := List.getElem?_eq_some_iff.mp hx48; rw [List.take_succ_eq_append_getElem q1, q2]; intro d hd; rcases List.mem_append.mp hd with q | q; exact hne d q; rw [List.mem_singleton.mp q]; exact c51) _ _ _ _ _ hS hAu Aw hOu (by omega) (by omega) (lv_sub hl [1, 2, 3, 4, 5, 0] rfl)
        exact l36 _ 0 (Nat.lt_succ_self _) (by omega) (by rw [List.take_zero]; intro d hd; cases hd) _ _ _ _ _ hS hAu Aw hOu (by omega) (by omega) (lv_sub hl [2, 3, 4, 5, 1, 0] rfl)
  exact lp _ u 0 (-2) rs (Nat.lt_succ_self _) (by omega) hlr rfl _ _ _ _ _ hS hAu hOu (by omega) (by rw [List.drop_zero]; omega) (lv_sub hl [4, 2, 1, 0] rfl)
theorem m_X4_word (G : zE) (l : Launch) (H0 : Heap) (P : Nat → Prop) (b : Nat) (r0 : Option Nat) (v : Option (List Int)) (nm : List Int) (h1 : Orw G P H0 r0 v) (hb9 : Ai G H0 b 101 nm) (hcv : ochs v ∧ olen v 40000) (hnm : chs nm ∧ nm.length ≤ 100000) {mc ms : Nat} (hmc : wC v ≤ mc) (hms : wS v ≤ ms) : zR G l yX4_word (ws_ yX4_word cX4_word 9 (some FieldType.int)) 3 63 mc ms [va_rf r0, .ref b] H0 (fun r _ => r = .int (iI (wrd v nm))) (Pur H0) := by
  cases v with
  | none => rw [h1.n]; exact m_X4_word_n G l H0 b nm
  | some x => obtain ⟨a, rfl, -, ha⟩ := h1.s; exact m_X4_word_s G l H0 a b x nm ha hb9 ⟨hcv.1 x rfl, hcv.2 x rfl⟩ hnm hmc hms
