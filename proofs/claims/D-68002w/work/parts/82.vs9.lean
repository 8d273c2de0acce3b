/-! ===== the component: Thing.tell ===== -/
set_option maxHeartbeats 4000000 in
set_option maxRecDepth 100000 in
theorem m_X7_tell (G : zE) (l : Launch) (H0 : Heap) (P : Nat → Prop) (t co h : Nat) (rs : List Nat) (T : Txt) (cs : List Bool) (kv : KV) (ti : Int) (u0 u1 u2 u3 u4 u5 u6 u7 u8 : Value) (hB : Bh G H0) (htb : G.2.heap.size ≤ t) (ht : Ob G H0 t 4 [u0, u1, u2, u3, u4, u5, u6, u7, u8]) (hco : Ct G P H0 co kv) (hHR : HR G P H0 h rs T cs) (hPt : ∀ q, P q → q ≠ t) (hkv : ∀ t ∈ kv, t.2 ≠ -1 ∧ -2 ≤ t.2 ∧ t.2 < 1000000) (hn : T.length ≤ 30000) {mc ms : Nat}  : zV G l yX7_tell (ws_ yX7_tell cX7_tell 8 (none)) 6 129 mc ms [.ref t, .ref co, .ref h, .int (iI ti)] H0 (fun H1 => Ob G H1 t 4 [u0, u1, u2, u3, .ref co, .int (iI (lifeX (ctG kv nSm) (ctG kv nMa) (secO (hdV T nDate)) (secO (hdV T nExp)))), .int (iI (ageX (secO (hdV T nAge)))), .int (iI ti), u8]) (fun q => H0.size ≤ q ∨ q = t) := by
  refine zV.start (cc := cX7_tell) (by decide) (Nat.le_of_ble_eq_true rfl) ?_
  intro p e s m args below meth c Q cx hQ hmn ls hl
  have hx := cx.1
  have hb := cx.2.1
  have hS : va_S (fun q => H0.size ≤ q ∨ q = t) H0 H0 [] := va_S.rf
  have hl : lv_has ls 8 [(0, .ref t), (1, .ref co), (2, .ref h), (3, .int (iI ti))] := hl
  have hB9 := hB.1
  have hBA : ∀ q, (H0.size ≤ q ∨ q = t) → G.2.heap.size ≤ q := fun q z => by rcases z with z | z <;> omega
  obtain ⟨hPc, nl, ul, hc9, -⟩ := id hco
  have hct : co ≠ t := hPt co hPc
  have hrt : ∀ r ∈ rs, r ≠ t := fun r hr => by
    obtain ⟨L, ed, cap, mz, -, -, -, -, -, -, -, h8⟩ := hHR
    obtain ⟨w, cb, hw⟩ := h8.get hr
    exact hw.cl.ne ht.cl cx.kk rfl
  have g1 := ctG_rg hkv nSm
  have g2 := ctG_rg hkv nMa
  have g3 := secO_rg (hdV T nDate)
  have g4 := secO_rg (hdV T nExp)
  have g5 := secO_rg (hdV T nAge)
  refine lv_aload_n hx hb dX7_tell_0 rfl (lv_at hl 0 rfl) ?_
  refine lv_aload_n hx hb dX7_tell_1 rfl (lv_at hl 1 rfl) ?_
  refine z_put cx (k0 := 4) (vs' := [u0, u1, u2, u3, .ref co, u5, u6, u7, u8]) ht (Or.inr rfl) hS rfl in_X7 tyX7_ok nmX7 (by decide) q900 rfl rfl  rfl (Nat.le_of_ble_eq_true rfl) ⟨rfl, rfl⟩ dX7_tell_2 (fun H locs ht hz9 hq9 hS => ?_)
  have hc9 := hc9.kept (hq9 _ hct)
  have hHR := hHR.kp cx.kk.1 (Kp.put hq9 hPt) (fun r hr => hq9 r (hrt r hr))
  have hco := hco.kp cx.kk.1 (Kp.put hq9 hPt)
  refine lv_aload_n hx hb dX7_tell_5 rfl (lv_at hl 1 rfl) ?_
  obtain ⟨la6, ltx, lR, lS6⟩ := lit_X7_30 cx.kk.1
  refine z_ldcS cx lR dX7_tell_6 ?_
  refine z_callV cx (j := 1) (m_X3_of G l _ P (Old G) co la6 kv nSm (hB.ofS hS hBA) hco (lS6.old (hB.ofS hS hBA)) (mc := 0) (ms := 0)) (lw_V q930 q839 q840 q37 q841) (zrecv cx hc9 rfl) (by decide +kernel) rfl (rest := []) rfl hl (Nat.le_of_ble_eq_true rfl) (by decide) (by omega) dX7_tell_8 hS (fun q h => Or.inl (Nat.le_trans hS.1 h)) (fun v8 H locs hp8 hz9 hk9 hS => ?_)
  have hE9 := Ext.of hz9 hk9 (fun q h => h)
  have ht := ht.ext hE9
  have hc9 := hc9.ext hE9
  subst hp8
  have hHR := hHR.ext cx.kk.1 hE9
  have hco := hco.ext cx.kk.1 hE9
  refine lv_istore (lv' := [(4, .int (iI (ctG kv nSm))), (0, .ref t), (1, .ref co), (2, .ref h), (3, .int (iI ti))]) hx hb dX7_tell_11 hl (by decide) rfl (fun ls hl => ?_)
  refine lv_aload_n hx hb dX7_tell_13 rfl (lv_at hl 2 rfl) ?_
  obtain ⟨la14, ltx, lR, lS14⟩ := lit_X7_38 cx.kk.1
  refine z_ldcS cx lR dX7_tell_14 ?_
  refine z_callV cx (j := 1) (m_X3_of G l _ P (Old G) co la14 kv nMa (hB.ofS hS hBA) hco (lS14.old (hB.ofS hS hBA)) (mc := 0) (ms := 0)) (lw_V q930 q839 q840 q37 q841) (zrecv cx hc9 rfl) (by decide +kernel) rfl (rest := []) rfl hl (Nat.le_of_ble_eq_true rfl) (by decide) (by omega) dX7_tell_16 hS (fun q h => Or.inl (Nat.le_trans hS.1 h)) (fun v16 H locs hp16 hz9 hk9 hS => ?_)
  have hE9 := Ext.of hz9 hk9 (fun q h => h)
  have ht := ht.ext hE9
  have hc9 := hc9.ext hE9
  subst hp16
  have hHR := hHR.ext cx.kk.1 hE9
  obtain ⟨L, ed, cap, mz, -, hPL, hPe, hh, hL, hed, hcap, hN⟩ := id hHR
  have hht : h ≠ t := hh.cl.ne ht.cl cx.kk rfl
  refine lv_istore (lv' := [(5, .int (iI (ctG kv nMa))), (4, .int (iI (ctG kv nSm))), (0, .ref t), (1, .ref co), (2, .ref h), (3, .int (iI ti))]) hx hb dX7_tell_19 hl (by decide) rfl (fun ls hl => ?_)
  refine lv_aload_n hx hb dX7_tell_21 rfl (lv_at hl 4 rfl) ?_
  obtain ⟨la22, ltx, lR, lS22⟩ := lit_X7_40 cx.kk.1
  refine z_ldcS cx lR dX7_tell_22 ?_
  refine z_callV cx (j := 1) (m_X2_seconds G l _ P (Old G) h L ed cap la22 (.int (iI mz)) rs T cs nDate (hB.ofS hS hBA) hh hL hed hN hn (lS22.old (hB.ofS hS hBA)) (mc := 0) (ms := 0)) (lw_V q933 q934 q935 q36 q936) (zrecv cx hh rfl) (by decide +kernel) rfl (rest := []) rfl hl (Nat.le_of_ble_eq_true rfl) (by decide) (by omega) dX7_tell_24 hS (fun q h => Or.inl (Nat.le_trans hS.1 h)) (fun v24 H locs hp24 hz9 hk9 hS => ?_)
  have hE9 := Ext.of hz9 hk9 (fun q h => h)
  have ht := ht.ext hE9
  have hc9 := hc9.ext hE9
  have hh := hh.ext hE9
  subst hp24
  have hHR := hHR.ext cx.kk.1 hE9
  have hL := hL.ext hE9
  have hed := hed.ext hE9
  have hN := hN.ext hE9
  refine lv_istore (lv' := [(6, .int (iI (secO (hdV T nDate)))), (5, .int (iI (ctG kv nMa))), (4, .int (iI (ctG kv nSm))), (0, .ref t), (1, .ref co), (2, .ref h), (3, .int (iI ti))]) hx hb dX7_tell_27 hl (by decide) rfl (fun ls hl => ?_)
  refine lv_aload_n hx hb dX7_tell_29 rfl (lv_at hl 5 rfl) ?_
  obtain ⟨la30, ltx, lR, lS30⟩ := lit_X7_47 cx.kk.1
  refine z_ldcS cx lR dX7_tell_30 ?_
  refine z_callV cx (j := 1) (m_X2_seconds G l _ P (Old G) h L ed cap la30 (.int (iI mz)) rs T cs nExp (hB.ofS hS hBA) hh hL hed hN hn (lS30.old (hB.ofS hS hBA)) (mc := 0) (ms := 0)) (lw_V q933 q934 q935 q36 q936) (zrecv cx hh rfl) (by decide +kernel) rfl (rest := []) rfl hl (Nat.le_of_ble_eq_true rfl) (by decide) (by omega) dX7_tell_32 hS (fun q h => Or.inl (Nat.le_trans hS.1 h)) (fun v32 H locs hp32 hz9 hk9 hS => ?_)
  have hE9 := Ext.of hz9 hk9 (fun q h => h)
  have ht := ht.ext hE9
  have hc9 := hc9.ext hE9
  have hh := hh.ext hE9
  subst hp32
  have hHR := hHR.ext cx.kk.1 hE9
  refine lv_istore (lv' := [(7, .int (iI (secO (hdV T nExp)))), (6, .int (iI (secO (hdV T nDate)))), (5, .int (iI (ctG kv nMa))), (4, .int (iI (ctG kv nSm))), (0, .ref t), (1, .ref co), (2, .ref h), (3, .int (iI ti))]) hx hb dX7_tell_35 hl (by decide) rfl (fun ls hl => ?_)
  refine lv_aload_n hx hb dX7_tell_37 rfl (lv_at hl 4 rfl) ?_
  have l83 : ∀ (fuel : Nat) (z : Int), 0 < fuel → (z = lifeX (ctG kv nSm) (ctG kv nMa) (secO (hdV T nDate)) (secO (hdV T nExp))) → ∀ (H : Heap) (locs : List Loc) (ls : Array Slot) (k n : Nat), va_S (fun q => H0.size ≤ q ∨ q = t) H0 H locs → Ob G H t 4 [u0, u1, u2, u3, .ref co, u5, u6, u7, u8] → (HR G P H h rs T cs) → (k ≤ mc) → (n ≤ ms) → lv_has ls 8 [(0, .ref t), (1, .ref co), (2, .ref h), (3, .int (iI ti)), (4, .int (iI (ctG kv nSm))), (5, .int (iI (ctG kv nMa))), (6, .int (iI (secO (hdV T nDate)))), (7, .int (iI (secO (hdV T nExp))))] → W p l e ⟨6, mc, ms, 129⟩ s m args below meth c H locs k n Q (F0 m 83 ls [.int (iI z), .ref t]) := by
    intro fuel
    induction fuel with
    | zero => intro z hf9; exact absurd hf9 (Nat.not_lt_zero _)
    | succ fuel ih_l83 =>
      intro z hf9 hz H locs ls k n hS ht hHR hr1 hr2 hl
      subst hz
      refine z_put cx (k0 := 5) (vs' := [u0, u1, u2, u3, .ref co, .int (iI (lifeX (ctG kv nSm) (ctG kv nMa) (secO (hdV T nDate)) (secO (hdV T nExp)))), u6, u7, u8]) ht (Or.inr rfl) hS rfl in_X7 tyX7_ok nmX7 (by decide) q902 rfl rfl  rfl (Nat.le_of_ble_eq_true rfl) ⟨rfl, rfl⟩ dX7_tell_83 (fun H locs ht hz9 hq9 hS => ?_)
      have hHR := hHR.kp cx.kk.1 (Kp.put hq9 hPt) (fun r hr => hq9 r (hrt r hr))
      obtain ⟨L, ed, cap, mz, -, hPL, hPe, hh, hL, hed, hcap, hN⟩ := id hHR
      have hht : h ≠ t := hh.cl.ne ht.cl cx.kk rfl
      refine lv_aload_n hx hb dX7_tell_86 rfl (lv_at hl 0 rfl) ?_
      refine lv_iconst (v := iI (0)) hx hb dX7_tell_87 rfl ?_
      refine lv_aload_n hx hb dX7_tell_88 rfl (lv_at hl 2 rfl) ?_
      obtain ⟨la89, ltx, lR, lS89⟩ := lit_X7_58 cx.kk.1
      refine z_ldcS cx lR dX7_tell_89 ?_
      refine z_callV cx (j := 1) (m_X2_seconds G l _ P (Old G) h L ed cap la89 (.int (iI mz)) rs T cs nAge (hB.ofS hS hBA) hh hL hed hN hn (lS89.old (hB.ofS hS hBA)) (mc := 0) (ms := 0)) (lw_V q933 q934 q935 q36 q936) (zrecv cx hh rfl) (by decide +kernel) rfl (rest := [.int (iI 0), .ref t]) rfl hl (Nat.le_of_ble_eq_true rfl) (by decide) (by omega) dX7_tell_91 hS (fun q h => Or.inl (Nat.le_trans hS.1 h)) (fun v91 H locs hp91 hz9 hk9 hS => ?_)
      have hE9 := Ext.of hz9 hk9 (fun q h => h)
      have ht := ht.ext hE9
      have hh := hh.ext hE9
      subst hp91
      have hmx : ageX (secO (hdV T nAge)) = if 0 < secO (hdV T nAge) then secO (hdV T nAge) else 0 := by unfold ageX; split <;> split <;> omega
      refine z_mmax cx (z := ageX (secO (hdV T nAge))) (rest := [.ref t]) q941 ⟨by omega, by omega⟩ (by omega) hl (Nat.le_of_ble_eq_true rfl) (by decide) (by omega) dX7_tell_94 ?_
      refine z_put cx (k0 := 6) (vs' := [u0, u1, u2, u3, .ref co, .int (iI (lifeX (ctG kv nSm) (ctG kv nMa) (secO (hdV T nDate)) (secO (hdV T nExp)))), .int (iI (ageX (secO (hdV T nAge)))), u7, u8]) ht (Or.inr rfl) hS rfl in_X7 tyX7_ok nmX7 (by decide) q904 rfl rfl  rfl (Nat.le_of_ble_eq_true rfl) ⟨rfl, rfl⟩ dX7_tell_97 (fun H locs ht hz9 hq9 hS => ?_)
      refine lv_aload_n hx hb dX7_tell_100 rfl (lv_at hl 0 rfl) ?_
      refine lv_iload_n hx hb dX7_tell_101 rfl (lv_at hl 3 rfl) ?_
      refine z_put cx (k0 := 7) (vs' := [u0, u1, u2, u3, .ref co, .int (iI (lifeX (ctG kv nSm) (ctG kv nMa) (secO (hdV T nDate)) (secO (hdV T nExp)))), .int (iI (ageX (secO (hdV T nAge)))), .int (iI ti), u8]) ht (Or.inr rfl) hS rfl in_X7 tyX7_ok nmX7 (by decide) q905 rfl rfl  rfl (Nat.le_of_ble_eq_true rfl) ⟨rfl, rfl⟩ dX7_tell_102 (fun H locs ht hz9 hq9 hS => ?_)
      exact z_vret cx hQ rfl ht hS (by omega) dX7_tell_105
  refine lv_iload hx hb dX7_tell_38 (lv_at hl 3 rfl) ?_
  refine z_if_lt cx (tgt := 48) dX7_tell_40 (by decide) (by omega) (fun c40 => ?_) (fun c40 => ?_)
  · refine lv_iload hx hb dX7_tell_48 (lv_at hl 2 rfl) ?_
    refine z_if_lt cx (tgt := 58) dX7_tell_50 (by decide) (by omega) (fun c50 => ?_) (fun c50 => ?_)
    · have hc1 : ¬ 0 ≤ ctG kv nSm := by omega
      refine lv_iload hx hb dX7_tell_58 (lv_at hl 1 rfl) ?_
      refine lv_iconst (v := iI (-1)) hx hb dX7_tell_60 rfl ?_
      refine z_icmp_eq cx (tgt := 70) dX7_tell_61 (by decide) (by omega) (fun c61 => ?_) (fun c61 => ?_)
      · refine lv_iconst (v := iI (0)) hx hb dX7_tell_70 rfl ?_
        refine lv_goto (tgt := 83) hx hb dX7_tell_71 (by decide) ?_
        exact l83 _ 0 (Nat.lt_succ_self _) (by rw [lifeX, if_neg hc1, if_neg (by omega), if_pos (Or.inl c61)]) _ _ _ _ _ hS ht hHR (by omega) (by omega) (lv_sub hl [4, 5, 6, 7, 3, 2, 1, 0] rfl)
      · refine lv_iload hx hb dX7_tell_64 (lv_at hl 0 rfl) ?_
        refine lv_iconst (v := iI (-1)) hx hb dX7_tell_66 rfl ?_
        refine z_icmp_ne cx (tgt := 74) dX7_tell_67 (by decide) (by omega) (fun c67 => ?_) (fun c67 => ?_)
        · have hmx : ∀ a b : Int, (if a < b then b - a else 0) = (if 0 < b - a then b - a else 0) := fun a b => by split <;> split <;> omega
          refine lv_iconst (v := iI (0)) hx hb dX7_tell_74 rfl ?_
          refine lv_iload hx hb dX7_tell_75 (lv_at hl 0 rfl) ?_
          refine lv_iload hx hb dX7_tell_77 (lv_at hl 1 rfl) ?_
          refine z_isub cx (z := (secO (hdV T nExp)) - (secO (hdV T nDate))) dX7_tell_79 (by omega) ?_
          refine z_mmax cx (z := (if 0 < (secO (hdV T nExp)) - (secO (hdV T nDate)) then (secO (hdV T nExp)) - (secO (hdV T nDate)) else 0)) (rest := [.ref t]) q941 ⟨by omega, by omega⟩ (by omega) hl (Nat.le_of_ble_eq_true rfl) (by decide) (by omega) dX7_tell_80 ?_
          exact l83 _ (if (0 : Int) < secO (hdV T nExp) - secO (hdV T nDate) then secO (hdV T nExp) - secO (hdV T nDate) else 0) (Nat.lt_succ_self _) (by rw [lifeX, if_neg hc1, if_neg (show ¬ 0 ≤ ctG kv nMa by omega), if_neg (show ¬ (secO (hdV T nDate) = -1 ∨ secO (hdV T nExp) = -1) from fun z => z.elim c61 c67), hmx]) _ _ _ _ _ hS ht hHR (by omega) (by omega) (lv_sub hl [4, 5, 6, 7, 3, 2, 1, 0] rfl)
        · refine lv_iconst (v := iI (0)) hx hb dX7_tell_70 rfl ?_
          refine lv_goto (tgt := 83) hx hb dX7_tell_71 (by decide) ?_
          exact l83 _ 0 (Nat.lt_succ_self _) (by rw [lifeX, if_neg hc1, if_neg (by omega), if_pos (Or.inr c67)]) _ _ _ _ _ hS ht hHR (by omega) (by omega) (lv_sub hl [4, 5, 6, 7, 3, 2, 1, 0] rfl)
    · refine lv_iload hx hb dX7_tell_53 (lv_at hl 2 rfl) ?_
      refine lv_goto (tgt := 83) hx hb dX7_tell_55 (by decide) ?_
      exact l83 _ (ctG kv nMa) (Nat.lt_succ_self _) (by rw [lifeX, if_neg (by omega), if_pos c50]) _ _ _ _ _ hS ht hHR (by omega) (by omega) (lv_sub hl [4, 5, 6, 7, 3, 2, 1, 0] rfl)
  · refine lv_iload hx hb dX7_tell_43 (lv_at hl 3 rfl) ?_
    refine lv_goto (tgt := 83) hx hb dX7_tell_45 (by decide) ?_
    exact l83 _ (ctG kv nSm) (Nat.lt_succ_self _) (by rw [lifeX, if_pos c40]) _ _ _ _ _ hS ht hHR (by omega) (by omega) (lv_sub hl [4, 5, 6, 7, 3, 2, 1, 0] rfl)
