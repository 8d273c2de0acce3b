/-! ===== the component: pass, readFor ===== -/
set_option maxHeartbeats 4000000 in
set_option maxRecDepth 100000 in
theorem m_X1_pass (G : zE) (l : Launch) (H0 : Heap) (hl0 : l.stackTraces = false) (x : Nat) (z : Int) (cs : List Bool) (g : Sg) (hB : Bh G H0) (hR : RepC G H0 x cs g) (hz : rg z) {mc ms : Nat} (hmc : 1 ≤ mc) (hms : 6 ≤ ms) : zX G l yX1_pass (ws_ yX1_pass cX1_pass 2 (some FieldType.int)) 6 90 mc ms [.ref x, .int (iI z)] H0 exIA (fun r H1 => passOk g z = true ∧ r = .int (iI (gTime g + z)) ∧ RepC G H1 x cs (gTape g, gFault g, gTime g + z, gReq g, gTs g, gUse g)) (fun H1 => passOk g z = false ∧ RepC G H1 x cs g) (AC G H0) := by
  refine zX.start (cc := cX1_pass) (by decide) (Nat.le_of_ble_eq_true rfl) ?_
  intro p e s m args below meth c Q cx hQ htb ls hl
  have hx := cx.1
  have hb := cx.2.1
  have hS : va_S (AC G H0) H0 H0 [] := va_S.rf
  have hl : lv_has ls 2 [(0, .ref x), (1, .int (iI z))] := hl
  have hB9 := hB.1
  have hBA : ∀ q, AC G H0 q → G.2.heap.size ≤ q := AC.own hB
  have hR0 := hR
  obtain ⟨tp, th, ed, cap, rq, wi, mz, as, rs, pad, hx0, hR2, hm, hok, htz⟩ := hR
  have htm := hok.2.2.2.1
  have hAx := AC.x hx0 hm.2.2.2.2.1
  have hx8 := hx0
  obtain ⟨tm, htm9⟩ : ∃ tm, tm = gTime g := ⟨_, rfl⟩
  rw [← htm9] at htm
  have hno : ¬ (1 ≤ z ∧ z ≤ 100000 ∧ tm + z ≤ 1000000000) → passOk g z = false := fun h => by rw [passOk, ← htm9]; exact decide_eq_false h
  refine lv_iload_n hx hb dX1_pass_0 rfl (lv_at hl 1 rfl) ?_
  refine lv_iconst (v := iI (1)) hx hb dX1_pass_1 rfl ?_
  refine z_icmp_lt cx (tgt := 22) dX1_pass_2 (by decide) (by omega) (fun c2 => ?_) (fun c2 => ?_)
  · obtain ⟨la22, ltx, lR, lS22⟩ := lit_X1_253 cx.kk.1
    subst hQ
    exact z_throwIA cx htb hl0 hB hBA hl lR hS dX1_pass_22 dX1_pass_25 dX1_pass_26 dX1_pass_28 dX1_pass_31 (by decide) (Nat.le_of_ble_eq_true rfl) (by omega) (fun H1 hE => ⟨hno (by omega), hR0.ext cx.kk.1 hE⟩)
  · refine lv_iload_n hx hb dX1_pass_5 rfl (lv_at hl 1 rfl) ?_
    refine z_ldc cx (z := 100000) q1100 (by decide) dX1_pass_6 ?_
    refine z_icmp_gt cx (tgt := 22) dX1_pass_8 (by decide) (by omega) (fun c8 => ?_) (fun c8 => ?_)
    · obtain ⟨la22, ltx, lR, lS22⟩ := lit_X1_253 cx.kk.1
      subst hQ
      exact z_throwIA cx htb hl0 hB hBA hl lR hS dX1_pass_22 dX1_pass_25 dX1_pass_26 dX1_pass_28 dX1_pass_31 (by decide) (Nat.le_of_ble_eq_true rfl) (by omega) (fun H1 hE => ⟨hno (by omega), hR0.ext cx.kk.1 hE⟩)
    · refine lv_aload_n hx hb dX1_pass_11 rfl (lv_at hl 0 rfl) ?_
      refine z_get cx (k0 := 6) hx0 rfl in_X1 (by decide) q678 rfl rfl dX1_pass_12 ?_
      refine lv_iload_n hx hb dX1_pass_15 rfl (lv_at hl 1 rfl) ?_
      refine z_iadd cx (z := (tm + z)) dX1_pass_16 (by omega) ?_
      refine z_ldc cx (z := 1000000000) q1101 (by decide) dX1_pass_17 ?_
      refine z_icmp_le cx (tgt := 32) dX1_pass_19 (by decide) (by omega) (fun c19 => ?_) (fun c19 => ?_)
      · have hyes : passOk g z = true := by rw [passOk, ← htm9]; exact decide_eq_true ⟨by omega, by omega, by omega⟩
        refine lv_aload_n hx hb dX1_pass_32 rfl (lv_at hl 0 rfl) ?_
        refine lv_dup hx hb dX1_pass_33 rfl ?_
        refine z_get cx (k0 := 6) hx0 rfl in_X1 (by decide) q678 rfl rfl dX1_pass_34 ?_
        refine lv_iload_n hx hb dX1_pass_37 rfl (lv_at hl 1 rfl) ?_
        refine z_iadd cx (z := (gTime g + z)) dX1_pass_38 (by omega) ?_
        refine z_put cx (k0 := 6) (vs' := [.ref tp, .ref th, .ref rq, .ref wi, .int (iI (↑(gTape g).length)), .int (iI (gFault g)), .int (iI (gTime g + z)), .int (iI (gUse g : Int))]) hx0 hAx hS rfl in_X1 tyX1_ok nmX1 (by decide) q678 rfl rfl  rfl (Nat.le_of_ble_eq_true rfl) ⟨rfl, rfl⟩ dX1_pass_39 (fun H locs hx0 hz9 hq9 hS => ?_)
        have hR2 := hR2.kx cx.kk hx8 hm.2.2.2.2.1 (fun q _ h => hq9 q (fun z => h (Or.inr z)))
        refine lv_aload_n hx hb dX1_pass_42 rfl (lv_at hl 0 rfl) ?_
        refine z_get cx (k0 := 6) hx0 rfl in_X1 (by decide) q678 rfl rfl dX1_pass_43 ?_
        subst hQ
        exact vx_ret (z_iret cx rfl rfl rfl (⟨hyes, rfl, tp, th, ed, cap, rq, wi, mz, as, rs, pad, hx0, hR2, hm, ⟨hok.1, hok.2.1, hok.2.2.1, by show 0 ≤ gTime g + z ∧ gTime g + z ≤ 1000000000; omega, hok.2.2.2.2⟩, htz⟩) hS (by omega) dX1_pass_46)
      · obtain ⟨la22, ltx, lR, lS22⟩ := lit_X1_253 cx.kk.1
        subst hQ
        exact z_throwIA cx htb hl0 hB hBA hl lR hS dX1_pass_22 dX1_pass_25 dX1_pass_26 dX1_pass_28 dX1_pass_31 (by decide) (Nat.le_of_ble_eq_true rfl) (by omega) (fun H1 hE => ⟨hno (by omega), hR0.ext cx.kk.1 hE⟩)
set_option maxHeartbeats 4000000 in
set_option maxRecDepth 100000 in
theorem m_X1_readFor (G : zE) (l : Launch) (H0 : Heap) (hl0 : l.stackTraces = false) (x tp th rq wi : Nat) (fa0 ti us p0 : Int) (tx pad : List Int) (hB : Bh G H0) (hxb : G.2.heap.size ≤ x) (hx0 : Ob G H0 x 0 [.ref tp, .ref th, .ref rq, .ref wi, .int (iI (tx.length : Int)), .int (iI fa0), .int (iI ti), .int (iI us)]) (ht0 : Ai G H0 tp 100 (tx ++ pad)) (htc : chs tx ∧ chs pad ∧ tx.length ≤ 300) (hz : rg p0) {mc ms : Nat} (hmc : 10 * tx.length + 31 ≤ mc) (hms : (116 + 2 * tx.length) * tx.length + 28 * tx.length + 506 ≤ ms) : zX G l yX1_readFor (ws_ yX1_readFor cX1_readFor 3 (some (FieldType.object "VaryStore$Headers"))) 19 433 mc ms [.ref x, .int (iI p0)] H0 exIA (fun r H1 => ((rdT tx).1 = -1 ∧ 0 ≤ p0 ∧ p0 < 16) ∧ Ob G H1 x 0 [.ref tp, .ref th, .ref rq, .ref wi, .int (iI 0), .int (iI (rdT tx).1), .int (iI ti), .int (iI us)] ∧ ∃ (h : Nat) (rs : List Nat) (cs : List Bool), r = .ref h ∧ HR G (fun q => (H0.size ≤ q ∨ q < G.2.heap.size) ∧ q ∉ rs) H1 h rs (mrg (tln tx (rdT tx).2)) cs ∧ rs.Nodup ∧ (∀ r ∈ rs, H0.size ≤ r) ∧ tsz (mrg (tln tx (rdT tx).2)) ≤ tx.length) (fun H1 => ((rdT tx).1 = -1 ∧ 0 ≤ p0 ∧ p0 < 16 → False) ∧ Ob G H1 x 0 [.ref tp, .ref th, .ref rq, .ref wi, .int (iI 0), .int (iI (rdT tx).1), .int (iI ti), .int (iI us)]) (fun q => H0.size ≤ q ∨ q = x) := by
  refine zX.start (cc := cX1_readFor) (by decide) (Nat.le_of_ble_eq_true rfl) ?_
  intro p e s m args below meth c Q cx hQ htb ls hl
  have hx := cx.1
  have hb := cx.2.1
  have hS : va_S (fun q => H0.size ≤ q ∨ q = x) H0 H0 [] := va_S.rf
  have hl : lv_has ls 3 [(0, .ref x), (1, .int (iI p0))] := hl
  have hB9 := hB.1
  have hBA : ∀ q, (H0.size ≤ q ∨ q = x) → G.2.heap.size ≤ q := fun q z => by rcases z with z | z <;> omega
  obtain ⟨N2, hN2⟩ : ∃ N2, N2 = (116 + 2 * tx.length) * tx.length := ⟨_, rfl⟩
  rw [← hN2] at hms
  refine lv_aload_n hx hb dX1_readFor_0 rfl (lv_at hl 0 rfl) ?_
  have hr9 := hx0
  refine z_callV cx (j := 0) (m_X1_read G l _ x tp th rq wi fa0 ti us tx pad hB hxb hx0 ht0 htc (mc := 10 * tx.length + 30) (ms := N2 + 28 * tx.length + 500) (Nat.le_refl _) (by rw [hN2]; exact Nat.le_refl _)) (lw_V q730 q732 qs8 q32 q733) (zrecv cx hx0 rfl) (by decide +kernel) rfl (rest := []) rfl hl (Nat.le_of_ble_eq_true rfl) (by decide) (by omega) dX1_readFor_1 hS (fun q h => by rcases h with h | h; exact Or.inl (Nat.le_trans hS.1 h); exact Or.inr h) (fun v1 H locs hp1 hz9 hk9 hS => ?_)
  skip
  obtain ⟨hx1, hcase⟩ := hp1
  rcases hcase with ⟨he1, h9, rs9, cs9, rfl, hHR, hnd, hrs, htz⟩ | ⟨he1, rfl⟩
  · obtain ⟨L9, -, hh9⟩ := hHR.ob
    refine lv_astore_n (lv' := [(2, .ref h9), (0, .ref x), (1, .int (iI p0))]) hx hb dX1_readFor_4 rfl hl (by decide) rfl (fun ls hl => ?_)
    refine lv_aload_n hx hb dX1_readFor_5 rfl (lv_at hl 0 rfl) ?_
    refine lv_ifnull hx hb dX1_readFor_6 ?_
    refine lv_iload_n hx hb dX1_readFor_9 rfl (lv_at hl 2 rfl) ?_
    refine z_if_lt cx (tgt := 19) dX1_readFor_10 (by decide) (by omega) (fun c10 => ?_) (fun c10 => ?_)
    · obtain ⟨la19, ltx, lR, lS19⟩ := lit_X1_111 cx.kk.1
      subst hQ
      exact z_throwIA cx htb hl0 hB hBA hl lR hS dX1_readFor_19 dX1_readFor_22 dX1_readFor_23 dX1_readFor_25 dX1_readFor_28 (by decide) (Nat.le_of_ble_eq_true rfl) (by omega) (fun H1 hE => ⟨fun z => by omega, hx1.ext hE⟩)
    · refine lv_iload_n hx hb dX1_readFor_13 rfl (lv_at hl 2 rfl) ?_
      refine lv_bipush (v := iI (16)) hx hb dX1_readFor_14 (by decide) ?_
      refine z_icmp_lt cx (tgt := 29) dX1_readFor_16 (by decide) (by omega) (fun c16 => ?_) (fun c16 => ?_)
      · refine lv_aload_n hx hb dX1_readFor_29 rfl (lv_at hl 0 rfl) ?_
        subst hQ
        exact vx_ret (z_aret cx rfl rfl (Or.inl ⟨_, rfl⟩) (⟨⟨he1, by omega, by omega⟩, hx1, h9, rs9, cs9, rfl, hHR, hnd, hrs, htz⟩) hS (by omega) dX1_readFor_30)
      · obtain ⟨la19, ltx, lR, lS19⟩ := lit_X1_111 cx.kk.1
        subst hQ
        exact z_throwIA cx htb hl0 hB hBA hl lR hS dX1_readFor_19 dX1_readFor_22 dX1_readFor_23 dX1_readFor_25 dX1_readFor_28 (by decide) (Nat.le_of_ble_eq_true rfl) (by omega) (fun H1 hE => ⟨fun z => by omega, hx1.ext hE⟩)
  · refine lv_astore_nN (lv' := [(2, .null), (0, .ref x), (1, .int (iI p0))]) hx hb dX1_readFor_4 rfl hl (by decide) rfl (fun ls hl => ?_)
    refine lv_aload_nN hx hb dX1_readFor_5 rfl (lv_at hl 0 rfl) ?_
    refine lv_ifnullN (tgt := 19) hx hb dX1_readFor_6 (by decide) ?_
    obtain ⟨la19, ltx, lR, lS19⟩ := lit_X1_111 cx.kk.1
    subst hQ
    exact z_throwIA cx htb hl0 hB hBA hl lR hS dX1_readFor_19 dX1_readFor_22 dX1_readFor_23 dX1_readFor_25 dX1_readFor_28 (by decide) (Nat.le_of_ble_eq_true rfl) (by omega) (fun H1 hE => ⟨fun z => he1 z.1, hx1.ext hE⟩)
