/-! ===== the model's small methods ===== -/
set_option maxHeartbeats 4000000 in
set_option maxRecDepth 100000 in
theorem m_X4_small (G : zE) (l : Launch) (H0 : Heap) (z : Int) (hz : rg z) {mc ms : Nat}  : zR G l yX4_small (ws_ yX4_small cX4_small 1 (some FieldType.int)) 0 0 mc ms [.int (iI z)] H0 (fun r _ => r = .int (iI (smI z))) (Pur H0) := by
  refine zR.start (cc := cX4_small) (by decide) (Nat.le_of_ble_eq_true rfl) ?_
  intro p e s m args below meth c Q cx hQ hmn ls hl
  have hx := cx.1
  have hb := cx.2.1
  have hS : va_S (Pur H0) H0 H0 [] := va_S.rf
  have hl : lv_has ls 1 [(0, .int (iI z))] := hl
  refine lv_iload_n hx hb dX4_small_0 rfl (lv_at hl 0 rfl) ?_
  refine lv_bipush (v := iI (65)) hx hb dX4_small_1 (by decide) ?_
  refine z_icmp_lt cx (tgt := 19) dX4_small_3 (by decide) (by omega) (fun c3 => ?_) (fun c3 => ?_)
  · refine lv_iload_n hx hb dX4_small_19 rfl (lv_at hl 0 rfl) ?_
    exact z_iret cx hQ rfl rfl (by simp only [smI]; congr 2; split <;> omega) hS (by omega) dX4_small_20
  · refine lv_iload_n hx hb dX4_small_6 rfl (lv_at hl 0 rfl) ?_
    refine lv_bipush (v := iI (90)) hx hb dX4_small_7 (by decide) ?_
    refine z_icmp_gt cx (tgt := 19) dX4_small_9 (by decide) (by omega) (fun c9 => ?_) (fun c9 => ?_)
    · refine lv_iload_n hx hb dX4_small_19 rfl (lv_at hl 0 rfl) ?_
      exact z_iret cx hQ rfl rfl (by simp only [smI]; congr 2; split <;> omega) hS (by omega) dX4_small_20
    · refine lv_iload_n hx hb dX4_small_12 rfl (lv_at hl 0 rfl) ?_
      refine lv_bipush (v := iI (32)) hx hb dX4_small_13 (by decide) ?_
      refine z_iadd cx (z := z + 32) dX4_small_15 (by omega) ?_
      refine lv_goto (tgt := 20) hx hb dX4_small_16 (by decide) ?_
      exact z_iret cx hQ rfl rfl (by simp only [smI]; congr 2; split <;> omega) hS (by omega) dX4_small_20
set_option maxHeartbeats 4000000 in
set_option maxRecDepth 100000 in
theorem m_X4_isDigit (G : zE) (l : Launch) (H0 : Heap) (z : Int) (hz : rg z) {mc ms : Nat}  : zR G l yX4_isDigit (ws_ yX4_isDigit cX4_isDigit 1 (some FieldType.boolean)) 0 0 mc ms [.int (iI z)] H0 (fun r _ => r = .int (iI (b2i (isDg z)))) (Pur H0) := by
  refine zR.start (cc := cX4_isDigit) (by decide) (Nat.le_of_ble_eq_true rfl) ?_
  intro p e s m args below meth c Q cx hQ hmn ls hl
  have hx := cx.1
  have hb := cx.2.1
  have hS : va_S (Pur H0) H0 H0 [] := va_S.rf
  have hl : lv_has ls 1 [(0, .int (iI z))] := hl
  refine lv_iload_n hx hb dX4_isDigit_0 rfl (lv_at hl 0 rfl) ?_
  refine lv_bipush (v := iI (48)) hx hb dX4_isDigit_1 (by decide) ?_
  refine z_icmp_lt cx (tgt := 16) dX4_isDigit_3 (by decide) (by omega) (fun c3 => ?_) (fun c3 => ?_)
  · refine lv_iconst (v := iI (0)) hx hb dX4_isDigit_16 rfl ?_
    exact z_iret cx hQ rfl rfl (by simp only [isDg, b2i, decide_eq_true_eq]; congr 2; split <;> omega) hS (by omega) dX4_isDigit_17
  · refine lv_iload_n hx hb dX4_isDigit_6 rfl (lv_at hl 0 rfl) ?_
    refine lv_bipush (v := iI (57)) hx hb dX4_isDigit_7 (by decide) ?_
    refine z_icmp_gt cx (tgt := 16) dX4_isDigit_9 (by decide) (by omega) (fun c9 => ?_) (fun c9 => ?_)
    · refine lv_iconst (v := iI (0)) hx hb dX4_isDigit_16 rfl ?_
      exact z_iret cx hQ rfl rfl (by simp only [isDg, b2i, decide_eq_true_eq]; congr 2; split <;> omega) hS (by omega) dX4_isDigit_17
    · refine lv_iconst (v := iI (1)) hx hb dX4_isDigit_12 rfl ?_
      refine lv_goto (tgt := 17) hx hb dX4_isDigit_13 (by decide) ?_
      exact z_iret cx hQ rfl rfl (by simp only [isDg, b2i, decide_eq_true_eq]; congr 2; split <;> omega) hS (by omega) dX4_isDigit_17
set_option maxHeartbeats 4000000 in
set_option maxRecDepth 100000 in
theorem m_X4_isNameSign (G : zE) (l : Launch) (H0 : Heap) (z : Int) (hz : rg z) {mc ms : Nat}  : zR G l yX4_isNameSign (ws_ yX4_isNameSign cX4_isNameSign 1 (some FieldType.boolean)) 1 20 mc ms [.int (iI z)] H0 (fun r _ => r = .int (iI (b2i (isNS z)))) (Pur H0) := by
  refine zR.start (cc := cX4_isNameSign) (by decide) (Nat.le_of_ble_eq_true rfl) ?_
  intro p e s m args below meth c Q cx hQ hmn ls hl
  have hx := cx.1
  have hb := cx.2.1
  have hS : va_S (Pur H0) H0 H0 [] := va_S.rf
  have hl : lv_has ls 1 [(0, .int (iI z))] := hl
  refine lv_iload_n hx hb dX4_isNameSign_0 rfl (lv_at hl 0 rfl) ?_
  refine lv_bipush (v := iI (65)) hx hb dX4_isNameSign_1 (by decide) ?_
  refine z_icmp_lt cx (tgt := 12) dX4_isNameSign_3 (by decide) (by omega) (fun c3 => ?_) (fun c3 => ?_)
  · refine lv_iload_n hx hb dX4_isNameSign_12 rfl (lv_at hl 0 rfl) ?_
    refine lv_bipush (v := iI (97)) hx hb dX4_isNameSign_13 (by decide) ?_
    refine z_icmp_lt cx (tgt := 24) dX4_isNameSign_15 (by decide) (by omega) (fun c15 => ?_) (fun c15 => ?_)
    · refine lv_iload_n hx hb dX4_isNameSign_24 rfl (lv_at hl 0 rfl) ?_
      refine z_callS cx (j := 1) (m_X4_isDigit G l _ z hz (mc := 0) (ms := 0)) (lw_S q1206 q1207 q57 q1208) (by decide +kernel) rfl (rest := []) rfl hl (Nat.le_of_ble_eq_true rfl) (by decide) (by omega) dX4_isNameSign_25 hS (fun q h => Nat.le_trans hS.1 h) (fun v25 H locs hp25 hz9 hk9 hS => ?_)
      have hE9 := Ext.of hz9 hk9 (fun q h => h)
      have hb25 := b2i_rg (isDg z)
      subst hp25
      refine z_if_ne cx (tgt := 37) dX4_isNameSign_28 (by decide) (by omega) (fun c28 => ?_) (fun c28 => ?_)
      · refine lv_iconst (v := iI (1)) hx hb dX4_isNameSign_37 rfl ?_
        refine lv_goto (tgt := 42) hx hb dX4_isNameSign_38 (by decide) ?_
        exact z_iret cx hQ rfl rfl (by simp only [isDg, b2i, decide_eq_true_eq] at *; simp only [isNS, b2i, decide_eq_true_eq]; congr 2; split <;> omega) hS (by omega) dX4_isNameSign_42
      · refine lv_iload_n hx hb dX4_isNameSign_31 rfl (lv_at hl 0 rfl) ?_
        refine lv_bipush (v := iI (45)) hx hb dX4_isNameSign_32 (by decide) ?_
        refine z_icmp_ne cx (tgt := 41) dX4_isNameSign_34 (by decide) (by omega) (fun c34 => ?_) (fun c34 => ?_)
        · refine lv_iconst (v := iI (0)) hx hb dX4_isNameSign_41 rfl ?_
          exact z_iret cx hQ rfl rfl (by simp only [isDg, b2i, decide_eq_true_eq] at *; simp only [isNS, b2i, decide_eq_true_eq]; congr 2; split <;> omega) hS (by omega) dX4_isNameSign_42
        · refine lv_iconst (v := iI (1)) hx hb dX4_isNameSign_37 rfl ?_
          refine lv_goto (tgt := 42) hx hb dX4_isNameSign_38 (by decide) ?_
          exact z_iret cx hQ rfl rfl (by simp only [isDg, b2i, decide_eq_true_eq] at *; simp only [isNS, b2i, decide_eq_true_eq]; congr 2; split <;> omega) hS (by omega) dX4_isNameSign_42
    · refine lv_iload_n hx hb dX4_isNameSign_18 rfl (lv_at hl 0 rfl) ?_
      refine lv_bipush (v := iI (122)) hx hb dX4_isNameSign_19 (by decide) ?_
      refine z_icmp_le cx (tgt := 37) dX4_isNameSign_21 (by decide) (by omega) (fun c21 => ?_) (fun c21 => ?_)
      · refine lv_iconst (v := iI (1)) hx hb dX4_isNameSign_37 rfl ?_
        refine lv_goto (tgt := 42) hx hb dX4_isNameSign_38 (by decide) ?_
        exact z_iret cx hQ rfl rfl (by simp only [isDg, b2i, decide_eq_true_eq] at *; simp only [isNS, b2i, decide_eq_true_eq]; congr 2; split <;> omega) hS (by omega) dX4_isNameSign_42
      · refine lv_iload_n hx hb dX4_isNameSign_24 rfl (lv_at hl 0 rfl) ?_
        refine z_callS cx (j := 1) (m_X4_isDigit G l _ z hz (mc := 0) (ms := 0)) (lw_S q1206 q1207 q57 q1208) (by decide +kernel) rfl (rest := []) rfl hl (Nat.le_of_ble_eq_true rfl) (by decide) (by omega) dX4_isNameSign_25 hS (fun q h => Nat.le_trans hS.1 h) (fun v25 H locs hp25 hz9 hk9 hS => ?_)
        have hE9 := Ext.of hz9 hk9 (fun q h => h)
        have hb25 := b2i_rg (isDg z)
        subst hp25
        refine z_if_ne cx (tgt := 37) dX4_isNameSign_28 (by decide) (by omega) (fun c28 => ?_) (fun c28 => ?_)
        · refine lv_iconst (v := iI (1)) hx hb dX4_isNameSign_37 rfl ?_
          refine lv_goto (tgt := 42) hx hb dX4_isNameSign_38 (by decide) ?_
          exact z_iret cx hQ rfl rfl (by simp only [isDg, b2i, decide_eq_true_eq] at *; simp only [isNS, b2i, decide_eq_true_eq]; congr 2; split <;> omega) hS (by omega) dX4_isNameSign_42
        · refine lv_iload_n hx hb dX4_isNameSign_31 rfl (lv_at hl 0 rfl) ?_
          refine lv_bipush (v := iI (45)) hx hb dX4_isNameSign_32 (by decide) ?_
          refine z_icmp_ne cx (tgt := 41) dX4_isNameSign_34 (by decide) (by omega) (fun c34 => ?_) (fun c34 => ?_)
          · refine lv_iconst (v := iI (0)) hx hb dX4_isNameSign_41 rfl ?_
            exact z_iret cx hQ rfl rfl (by simp only [isDg, b2i, decide_eq_true_eq] at *; simp only [isNS, b2i, decide_eq_true_eq]; congr 2; split <;> omega) hS (by omega) dX4_isNameSign_42
          · refine lv_iconst (v := iI (1)) hx hb dX4_isNameSign_37 rfl ?_
            refine lv_goto (tgt := 42) hx hb dX4_isNameSign_38 (by decide) ?_
            exact z_iret cx hQ rfl rfl (by simp only [isDg, b2i, decide_eq_true_eq] at *; simp only [isNS, b2i, decide_eq_true_eq]; congr 2; split <;> omega) hS (by omega) dX4_isNameSign_42
  · refine lv_iload_n hx hb dX4_isNameSign_6 rfl (lv_at hl 0 rfl) ?_
    refine lv_bipush (v := iI (90)) hx hb dX4_isNameSign_7 (by decide) ?_
    refine z_icmp_le cx (tgt := 37) dX4_isNameSign_9 (by decide) (by omega) (fun c9 => ?_) (fun c9 => ?_)
    · refine lv_iconst (v := iI (1)) hx hb dX4_isNameSign_37 rfl ?_
      refine lv_goto (tgt := 42) hx hb dX4_isNameSign_38 (by decide) ?_
      exact z_iret cx hQ rfl rfl (by simp only [isDg, b2i, decide_eq_true_eq] at *; simp only [isNS, b2i, decide_eq_true_eq]; congr 2; split <;> omega) hS (by omega) dX4_isNameSign_42
    · refine lv_iload_n hx hb dX4_isNameSign_12 rfl (lv_at hl 0 rfl) ?_
      refine lv_bipush (v := iI (97)) hx hb dX4_isNameSign_13 (by decide) ?_
      refine z_icmp_lt cx (tgt := 24) dX4_isNameSign_15 (by decide) (by omega) (fun c15 => ?_) (fun c15 => ?_)
      · refine lv_iload_n hx hb dX4_isNameSign_24 rfl (lv_at hl 0 rfl) ?_
        refine z_callS cx (j := 1) (m_X4_isDigit G l _ z hz (mc := 0) (ms := 0)) (lw_S q1206 q1207 q57 q1208) (by decide +kernel) rfl (rest := []) rfl hl (Nat.le_of_ble_eq_true rfl) (by decide) (by omega) dX4_isNameSign_25 hS (fun q h => Nat.le_trans hS.1 h) (fun v25 H locs hp25 hz9 hk9 hS => ?_)
        have hE9 := Ext.of hz9 hk9 (fun q h => h)
        have hb25 := b2i_rg (isDg z)
        subst hp25
        refine z_if_ne cx (tgt := 37) dX4_isNameSign_28 (by decide) (by omega) (fun c28 => ?_) (fun c28 => ?_)
        · refine lv_iconst (v := iI (1)) hx hb dX4_isNameSign_37 rfl ?_
          refine lv_goto (tgt := 42) hx hb dX4_isNameSign_38 (by decide) ?_
          exact z_iret cx hQ rfl rfl (by simp only [isDg, b2i, decide_eq_true_eq] at *; simp only [isNS, b2i, decide_eq_true_eq]; congr 2; split <;> omega) hS (by omega) dX4_isNameSign_42
        · refine lv_iload_n hx hb dX4_isNameSign_31 rfl (lv_at hl 0 rfl) ?_
          refine lv_bipush (v := iI (45)) hx hb dX4_isNameSign_32 (by decide) ?_
          refine z_icmp_ne cx (tgt := 41) dX4_isNameSign_34 (by decide) (by omega) (fun c34 => ?_) (fun c34 => ?_)
          · refine lv_iconst (v := iI (0)) hx hb dX4_isNameSign_41 rfl ?_
            exact z_iret cx hQ rfl rfl (by simp only [isDg, b2i, decide_eq_true_eq] at *; simp only [isNS, b2i, decide_eq_true_eq]; congr 2; split <;> omega) hS (by omega) dX4_isNameSign_42
          · refine lv_iconst (v := iI (1)) hx hb dX4_isNameSign_37 rfl ?_
            refine lv_goto (tgt := 42) hx hb dX4_isNameSign_38 (by decide) ?_
            exact z_iret cx hQ rfl rfl (by simp only [isDg, b2i, decide_eq_true_eq] at *; simp only [isNS, b2i, decide_eq_true_eq]; congr 2; split <;> omega) hS (by omega) dX4_isNameSign_42
      · refine lv_iload_n hx hb dX4_isNameSign_18 rfl (lv_at hl 0 rfl) ?_
        refine lv_bipush (v := iI (122)) hx hb dX4_isNameSign_19 (by decide) ?_
        refine z_icmp_le cx (tgt := 37) dX4_isNameSign_21 (by decide) (by omega) (fun c21 => ?_) (fun c21 => ?_)
        · refine lv_iconst (v := iI (1)) hx hb dX4_isNameSign_37 rfl ?_
          refine lv_goto (tgt := 42) hx hb dX4_isNameSign_38 (by decide) ?_
          exact z_iret cx hQ rfl rfl (by simp only [isDg, b2i, decide_eq_true_eq] at *; simp only [isNS, b2i, decide_eq_true_eq]; congr 2; split <;> omega) hS (by omega) dX4_isNameSign_42
        · refine lv_iload_n hx hb dX4_isNameSign_24 rfl (lv_at hl 0 rfl) ?_
          refine z_callS cx (j := 1) (m_X4_isDigit G l _ z hz (mc := 0) (ms := 0)) (lw_S q1206 q1207 q57 q1208) (by decide +kernel) rfl (rest := []) rfl hl (Nat.le_of_ble_eq_true rfl) (by decide) (by omega) dX4_isNameSign_25 hS (fun q h => Nat.le_trans hS.1 h) (fun v25 H locs hp25 hz9 hk9 hS => ?_)
          have hE9 := Ext.of hz9 hk9 (fun q h => h)
          have hb25 := b2i_rg (isDg z)
          subst hp25
          refine z_if_ne cx (tgt := 37) dX4_isNameSign_28 (by decide) (by omega) (fun c28 => ?_) (fun c28 => ?_)
          · refine lv_iconst (v := iI (1)) hx hb dX4_isNameSign_37 rfl ?_
            refine lv_goto (tgt := 42) hx hb dX4_isNameSign_38 (by decide) ?_
            exact z_iret cx hQ rfl rfl (by simp only [isDg, b2i, decide_eq_true_eq] at *; simp only [isNS, b2i, decide_eq_true_eq]; congr 2; split <;> omega) hS (by omega) dX4_isNameSign_42
          · refine lv_iload_n hx hb dX4_isNameSign_31 rfl (lv_at hl 0 rfl) ?_
            refine lv_bipush (v := iI (45)) hx hb dX4_isNameSign_32 (by decide) ?_
            refine z_icmp_ne cx (tgt := 41) dX4_isNameSign_34 (by decide) (by omega) (fun c34 => ?_) (fun c34 => ?_)
            · refine lv_iconst (v := iI (0)) hx hb dX4_isNameSign_41 rfl ?_
              exact z_iret cx hQ rfl rfl (by simp only [isDg, b2i, decide_eq_true_eq] at *; simp only [isNS, b2i, decide_eq_true_eq]; congr 2; split <;> omega) hS (by omega) dX4_isNameSign_42
            · refine lv_iconst (v := iI (1)) hx hb dX4_isNameSign_37 rfl ?_
              refine lv_goto (tgt := 42) hx hb dX4_isNameSign_38 (by decide) ?_
              exact z_iret cx hQ rfl rfl (by simp only [isDg, b2i, decide_eq_true_eq] at *; simp only [isNS, b2i, decide_eq_true_eq]; congr 2; split <;> omega) hS (by omega) dX4_isNameSign_42
set_option maxHeartbeats 4000000 in
set_option maxRecDepth 100000 in
theorem m_X4_isName (G : zE) (l : Launch) (H0 : Heap) (a : Nat) (xs : List Int) (f t : Nat) (ha : Ai G H0 a 101 xs) (hc : chs xs) (hf : f ≤ t ∧ t ≤ xs.length ∧ xs.length ≤ 100000) {mc ms : Nat}  : zR G l yX4_isName (ws_ yX4_isName cX4_isName 4 (some FieldType.boolean)) 2 40 mc ms [.ref a, .int (iI ↑f), .int (iI ↑t)] H0 (fun r _ => r = .int (iI (b2i (isNm (sl xs f t))))) (Pur H0) := by
  refine zR.start (cc := cX4_isName) (by decide) (Nat.le_of_ble_eq_true rfl) ?_
  intro p e s m args below meth c Q cx hQ hmn ls hl
  have hx := cx.1
  have hb := cx.2.1
  have hS : va_S (Pur H0) H0 H0 [] := va_S.rf
  have hl : lv_has ls 4 [(0, .ref a), (1, .int (iI ↑f)), (2, .int (iI ↑t))] := hl
  refine lv_iload_n hx hb dX4_isName_0 rfl (lv_at hl 1 rfl) ?_
  refine lv_istore_n (lv' := [(3, .int (iI ↑f)), (0, .ref a), (1, .int (iI ↑f)), (2, .int (iI ↑t))]) hx hb dX4_isName_1 rfl hl (by decide) rfl (fun ls hl => ?_)
  have lp : ∀ (fuel : Nat) (j : Nat), (t - j) < fuel → (f ≤ j ∧ j ≤ t) → ((sl xs f t).all isNS = (sl xs j t).all isNS) → ∀ (H : Heap) (locs : List Loc) (ls : Array Slot) (k n : Nat), va_S (Pur H0) H0 H locs → (k ≤ mc) → (n ≤ ms) → lv_has ls 4 [(0, .ref a), (1, .int (iI ↑f)), (2, .int (iI ↑t)), (3, .int (iI ↑j))] → W p l e ⟨2, mc, ms, 40⟩ s m args below meth c H locs k n Q (F0 m 2 ls []) := by
    intro fuel
    induction fuel with
    | zero => intro j  hf9; exact absurd hf9 (Nat.not_lt_zero _)
    | succ fuel ih_lp =>
      intro j  hf9 hj hall H locs ls k n hS  hr1 hr2 hl
      refine lv_iload_n hx hb dX4_isName_2 rfl (lv_at hl 3 rfl) ?_
      refine lv_iload_n hx hb dX4_isName_3 rfl (lv_at hl 2 rfl) ?_
      refine z_icmp_ge cx (tgt := 24) dX4_isName_4 (by decide) (by omega) (fun c4 => ?_) (fun c4 => ?_)
      · rw [sl_nil (show t ≤ j by omega)] at hall
        refine lv_iload_n hx hb dX4_isName_24 rfl (lv_at hl 2 rfl) ?_
        refine lv_iload_n hx hb dX4_isName_25 rfl (lv_at hl 1 rfl) ?_
        refine z_icmp_le cx (tgt := 41) dX4_isName_26 (by decide) (by omega) (fun c26 => ?_) (fun c26 => ?_)
        · refine lv_iconst (v := iI (0)) hx hb dX4_isName_41 rfl ?_
          exact z_iret cx hQ rfl rfl (by rw [isNm, hall, List.all_nil, decide_eq_false (by rw [sl_len hf.2.1]; omega)]; rfl) hS (by omega) dX4_isName_42
        · refine lv_iload_n hx hb dX4_isName_29 rfl (lv_at hl 2 rfl) ?_
          refine lv_iload_n hx hb dX4_isName_30 rfl (lv_at hl 1 rfl) ?_
          refine z_isub cx (z := ↑t - ↑f) dX4_isName_31 (by omega) ?_
          refine lv_bipush (v := iI (16)) hx hb dX4_isName_32 (by decide) ?_
          refine z_icmp_gt cx (tgt := 41) dX4_isName_34 (by decide) (by omega) (fun c34 => ?_) (fun c34 => ?_)
          · refine lv_iconst (v := iI (0)) hx hb dX4_isName_41 rfl ?_
            exact z_iret cx hQ rfl rfl (by rw [isNm, hall, List.all_nil, decide_eq_false (by rw [sl_len hf.2.1]; omega)]; rfl) hS (by omega) dX4_isName_42
          · refine lv_iconst (v := iI (1)) hx hb dX4_isName_37 rfl ?_
            refine lv_goto (tgt := 42) hx hb dX4_isName_38 (by decide) ?_
            exact z_iret cx hQ rfl rfl (by rw [isNm, hall, List.all_nil, decide_eq_true (by rw [sl_len hf.2.1]; omega)]; rfl) hS (by omega) dX4_isName_42
      · refine lv_aload_n hx hb dX4_isName_7 rfl (lv_at hl 0 rfl) ?_
        refine lv_iload_n hx hb dX4_isName_8 rfl (lv_at hl 3 rfl) ?_
        refine z_iald cx (ha.ext (Ext.ofS hS)) (j) (by omega) dX4_isName_9 (fun x9 hx9 => ?_)
        have bx9 := hc _ (List.mem_of_getElem? hx9)
        refine z_callS cx (j := 1) (m_X4_isNameSign G l _ x9 (by omega) (mc := 0) (ms := 0)) (lw_S q1203 q1204 q57 q1205) (by decide +kernel) rfl (rest := []) rfl hl (Nat.le_of_ble_eq_true rfl) (by decide) (by omega) dX4_isName_10 hS (fun q h => Nat.le_trans hS.1 h) (fun v10 H locs hp10 hz9 hk9 hS => ?_)
        have hE9 := Ext.of hz9 hk9 (fun q h => h)
        have hb10 := b2i_rg (isNS x9)
        subst hp10
        have h9 := sl_cons hx9 (by omega : j < t)
        refine z_if_ne cx (tgt := 18) dX4_isName_13 (by decide) (by omega) (fun c13 => ?_) (fun c13 => ?_)
        · refine z_iinc cx (j := 3) (z := ((j + 1 : Nat) : Int)) (lv' := [(3, .int (iI ((j + 1 : Nat) : Int))), (0, .ref a), (1, .int (iI ↑f)), (2, .int (iI ↑t))]) dX4_isName_18 hl rfl (by omega) (by decide) rfl (fun ls hl => ?_)
          refine lv_goto (tgt := 2) hx hb dX4_isName_21 (by decide) ?_
          exact ih_lp (j + 1) (by omega) (by omega) (by rw [hall, h9, List.all_cons]; cases h : isNS x9 <;> simp_all [b2i]) _ _ _ _ _ hS  (by omega) (by omega) (lv_sub hl [1, 2, 3, 0] rfl)
        · refine lv_iconst (v := iI (0)) hx hb dX4_isName_16 rfl ?_
          exact z_iret cx hQ rfl rfl (by rw [isNm, hall, h9, List.all_cons]; cases h : isNS x9 <;> simp_all [b2i]) hS (by omega) dX4_isName_17
  exact lp _ f (Nat.lt_succ_self _) (by omega) rfl _ _ _ _ _ hS  (by omega) (by omega) (lv_sub hl [1, 2, 3, 0] rfl)
