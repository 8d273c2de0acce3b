/-! ===== the model: time, a thing's parts, purging ===== -/
set_option maxHeartbeats 4000000 in
set_option maxRecDepth 100000 in
theorem m_X4_pass (G : zE) (l : Launch) (H0 : Heap) (x : Nat) (z : Int) (thr : Int) (g : Sg) (hR : RepT G H0 x thr g) (hz : rg z) {mc ms : Nat}  : zR G l yX4_pass (ws_ yX4_pass cX4_pass 2 (some FieldType.int)) 0 0 mc ms [.ref x, .int (iI z)] H0 (fun r H1 => (passOk g z = true → r = .int (iI (gTime g + z)) ∧ RepT G H1 x 0 (gTape g, gFault g, gTime g + z, gReq g, gTs g, gUse g)) ∧ (passOk g z = false → r = .int (iI 0) ∧ RepT G H1 x 1 g)) (AT G H0) := by
  refine zR.start (cc := cX4_pass) (by decide) (Nat.le_of_ble_eq_true rfl) ?_
  intro p e s m args below meth c Q cx hQ hmn ls hl
  have hx := cx.1
  have hb := cx.2.1
  have hS : va_S (AT G H0) H0 H0 [] := va_S.rf
  have hl : lv_has ls 2 [(0, .ref x), (1, .int (iI z))] := hl
  obtain ⟨tp, th, rt, as, pad, cs, lz, hx9, hR2, hm, hok⟩ := hR
  have hax := AT.x hx9 hm.2.2.2.1
  have hx8 := hx9
  have htm := hok.2.2.2.1
  refine lv_aload_n hx hb dX4_pass_0 rfl (lv_at hl 0 rfl) ?_
  refine lv_iload_n hx hb dX4_pass_1 rfl (lv_at hl 1 rfl) ?_
  refine lv_iconst (v := iI (1)) hx hb dX4_pass_2 rfl ?_
  refine z_icmp_lt cx (tgt := 25) dX4_pass_3 (by decide) (by omega) (fun c3 => ?_) (fun c3 => ?_)
  · have e9 : passOk g z = false := decide_eq_false (by omega)
    refine lv_iconst (v := iI (1)) hx hb dX4_pass_25 rfl ?_
    refine lv_goto (tgt := 30) hx hb dX4_pass_26 (by decide) ?_
    refine z_put cx (k0 := 4) (vs' := [.ref tp, .int (iI ((gTape g).length : Int)), .int (iI (gFault g)), .int (iI (gTime g)), .int (iI 1), .long (lN (gUse g)), .ref rt, .ref th, .int (iI ↑as.length)]) hx9 hax hS rfl in_X4 tyX4_ok nmX4 (by decide) q1159 rfl rfl  rfl (Nat.le_of_ble_eq_true rfl) ⟨rfl, rfl⟩ dX4_pass_30 (fun H locs hx9 hz9 hq9 hS => ?_)
    have hR2 := hR2.kx hx8 cx.kk hq9
    refine lv_aload_n hx hb dX4_pass_33 rfl (lv_at hl 0 rfl) ?_
    refine z_get cx (k0 := 4) hx9 rfl in_X4 (by decide) q1159 rfl rfl dX4_pass_34 ?_
    refine z_if_eq cx (tgt := 42) dX4_pass_37 (by decide) (by omega) (fun c37 => (by exfalso; exact absurd c37 (by decide))) (fun c37 => ?_)
    refine lv_iconst (v := iI (0)) hx hb dX4_pass_40 rfl ?_
    exact z_iret cx hQ rfl rfl (⟨fun h => (by rw [e9] at h; cases h), fun _ => ⟨rfl, tp, th, rt, as, pad, cs, lz, hx9, hR2, hm, hok⟩⟩) hS (by omega) dX4_pass_41
  · refine lv_iload_n hx hb dX4_pass_6 rfl (lv_at hl 1 rfl) ?_
    refine z_ldcw cx (z := 100000) q1395 (by decide) dX4_pass_7 ?_
    refine z_icmp_gt cx (tgt := 25) dX4_pass_10 (by decide) (by omega) (fun c10 => ?_) (fun c10 => ?_)
    · have e9 : passOk g z = false := decide_eq_false (by omega)
      refine lv_iconst (v := iI (1)) hx hb dX4_pass_25 rfl ?_
      refine lv_goto (tgt := 30) hx hb dX4_pass_26 (by decide) ?_
      refine z_put cx (k0 := 4) (vs' := [.ref tp, .int (iI ((gTape g).length : Int)), .int (iI (gFault g)), .int (iI (gTime g)), .int (iI 1), .long (lN (gUse g)), .ref rt, .ref th, .int (iI ↑as.length)]) hx9 hax hS rfl in_X4 tyX4_ok nmX4 (by decide) q1159 rfl rfl  rfl (Nat.le_of_ble_eq_true rfl) ⟨rfl, rfl⟩ dX4_pass_30 (fun H locs hx9 hz9 hq9 hS => ?_)
      have hR2 := hR2.kx hx8 cx.kk hq9
      refine lv_aload_n hx hb dX4_pass_33 rfl (lv_at hl 0 rfl) ?_
      refine z_get cx (k0 := 4) hx9 rfl in_X4 (by decide) q1159 rfl rfl dX4_pass_34 ?_
      refine z_if_eq cx (tgt := 42) dX4_pass_37 (by decide) (by omega) (fun c37 => (by exfalso; exact absurd c37 (by decide))) (fun c37 => ?_)
      refine lv_iconst (v := iI (0)) hx hb dX4_pass_40 rfl ?_
      exact z_iret cx hQ rfl rfl (⟨fun h => (by rw [e9] at h; cases h), fun _ => ⟨rfl, tp, th, rt, as, pad, cs, lz, hx9, hR2, hm, hok⟩⟩) hS (by omega) dX4_pass_41
    · refine lv_aload_n hx hb dX4_pass_13 rfl (lv_at hl 0 rfl) ?_
      refine z_get cx (k0 := 3) hx9 rfl in_X4 (by decide) q1158 rfl rfl dX4_pass_14 ?_
      refine lv_iload_n hx hb dX4_pass_17 rfl (lv_at hl 1 rfl) ?_
      refine z_iadd cx (z := gTime g + z) dX4_pass_18 (by omega) ?_
      refine z_ldcw cx (z := 1000000000) q1396 (by decide) dX4_pass_19 ?_
      refine z_icmp_le cx (tgt := 29) dX4_pass_22 (by decide) (by omega) (fun c22 => ?_) (fun c22 => ?_)
      · have e9 : passOk g z = true := decide_eq_true (by omega)
        refine lv_iconst (v := iI (0)) hx hb dX4_pass_29 rfl ?_
        refine z_put cx (k0 := 4) (vs' := [.ref tp, .int (iI ((gTape g).length : Int)), .int (iI (gFault g)), .int (iI (gTime g)), .int (iI 0), .long (lN (gUse g)), .ref rt, .ref th, .int (iI ↑as.length)]) hx9 hax hS rfl in_X4 tyX4_ok nmX4 (by decide) q1159 rfl rfl  rfl (Nat.le_of_ble_eq_true rfl) ⟨rfl, rfl⟩ dX4_pass_30 (fun H locs hx9 hz9 hq9 hS => ?_)
        have hR2 := hR2.kx hx8 cx.kk hq9
        have hx7 := hx9
        refine lv_aload_n hx hb dX4_pass_33 rfl (lv_at hl 0 rfl) ?_
        refine z_get cx (k0 := 4) hx9 rfl in_X4 (by decide) q1159 rfl rfl dX4_pass_34 ?_
        refine z_if_eq cx (tgt := 42) dX4_pass_37 (by decide) (by omega) (fun c37 => ?_) (fun c37 => (by exfalso; exact c37 rfl))
        refine lv_aload_n hx hb dX4_pass_42 rfl (lv_at hl 0 rfl) ?_
        refine lv_dup hx hb dX4_pass_43 rfl ?_
        refine z_get cx (k0 := 3) hx9 rfl in_X4 (by decide) q1158 rfl rfl dX4_pass_44 ?_
        refine lv_iload_n hx hb dX4_pass_47 rfl (lv_at hl 1 rfl) ?_
        refine z_iadd cx (z := gTime g + z) dX4_pass_48 (by omega) ?_
        refine z_put cx (k0 := 3) (vs' := [.ref tp, .int (iI ((gTape g).length : Int)), .int (iI (gFault g)), .int (iI (gTime g + z)), .int (iI 0), .long (lN (gUse g)), .ref rt, .ref th, .int (iI ↑as.length)]) hx9 hax hS rfl in_X4 tyX4_ok nmX4 (by decide) q1158 rfl rfl  rfl (Nat.le_of_ble_eq_true rfl) ⟨rfl, rfl⟩ dX4_pass_49 (fun H locs hx9 hz9 hq9 hS => ?_)
        have hR2 := hR2.kx hx7 cx.kk hq9
        refine lv_aload_n hx hb dX4_pass_52 rfl (lv_at hl 0 rfl) ?_
        refine z_get cx (k0 := 3) hx9 rfl in_X4 (by decide) q1158 rfl rfl dX4_pass_53 ?_
        exact z_iret cx hQ rfl rfl (⟨fun _ => ⟨rfl, tp, th, rt, as, pad, cs, lz, hx9, hR2, hm, ⟨hok.1, hok.2.1, hok.2.2.1, (by show 0 ≤ gTime g + z ∧ gTime g + z ≤ 1000000000; omega), hok.2.2.2.2⟩⟩, fun h => (by rw [e9] at h; cases h)⟩) hS (by omega) dX4_pass_56
      · have e9 : passOk g z = false := decide_eq_false (by omega)
        refine lv_iconst (v := iI (1)) hx hb dX4_pass_25 rfl ?_
        refine lv_goto (tgt := 30) hx hb dX4_pass_26 (by decide) ?_
        refine z_put cx (k0 := 4) (vs' := [.ref tp, .int (iI ((gTape g).length : Int)), .int (iI (gFault g)), .int (iI (gTime g)), .int (iI 1), .long (lN (gUse g)), .ref rt, .ref th, .int (iI ↑as.length)]) hx9 hax hS rfl in_X4 tyX4_ok nmX4 (by decide) q1159 rfl rfl  rfl (Nat.le_of_ble_eq_true rfl) ⟨rfl, rfl⟩ dX4_pass_30 (fun H locs hx9 hz9 hq9 hS => ?_)
        have hR2 := hR2.kx hx8 cx.kk hq9
        refine lv_aload_n hx hb dX4_pass_33 rfl (lv_at hl 0 rfl) ?_
        refine z_get cx (k0 := 4) hx9 rfl in_X4 (by decide) q1159 rfl rfl dX4_pass_34 ?_
        refine z_if_eq cx (tgt := 42) dX4_pass_37 (by decide) (by omega) (fun c37 => (by exfalso; exact absurd c37 (by decide))) (fun c37 => ?_)
        refine lv_iconst (v := iI (0)) hx hb dX4_pass_40 rfl ?_
        exact z_iret cx hQ rfl rfl (⟨fun h => (by rw [e9] at h; cases h), fun _ => ⟨rfl, tp, th, rt, as, pad, cs, lz, hx9, hR2, hm, hok⟩⟩) hS (by omega) dX4_pass_41
set_option maxHeartbeats 4000000 in
set_option maxRecDepth 100000 in
theorem m_X4_thing (G : zE) (l : Launch) (H0 : Heap) (x : Nat) (i w : Int) (thr : Int) (g : Sg) (hR : RepT G H0 x thr g) (hi : rg i) (hw : rg w) {mc ms : Nat}  : zR G l yX4_thing (ws_ yX4_thing cX4_thing 6 (some FieldType.int)) 2 42 mc ms [.ref x, .int (iI i), .int (iI w)] H0 (fun r H1 => RepT G H1 x (sThr (thgA g i w)) g ∧ r = .int (iI (sVal (thgA g i w)))) (AT G H0) := by
  refine zR.start (cc := cX4_thing) (by decide) (Nat.le_of_ble_eq_true rfl) ?_
  intro p e s m args below meth c Q cx hQ hmn ls hl
  have hx := cx.1
  have hb := cx.2.1
  have hS : va_S (AT G H0) H0 H0 [] := va_S.rf
  have hl : lv_has ls 6 [(0, .ref x), (1, .int (iI i)), (2, .int (iI w))] := hl
  obtain ⟨tp, th, rt, as, pad, cs, lz, hx9, hR2, hm, hok⟩ := hR
  have hax := AT.x hx9 hm.2.2.2.1
  have htm := hok.2.2.2.1
  have hn24 := hok.2.2.2.2.1
  have hlen := hR2.2.2.2.1
  have hAth := hR2.2.1
  have l92 : ∀ (fuel : Nat) , 0 < fuel → (thgA g i w = none) → ∀ (H : Heap) (locs : List Loc) (ls : Array Slot) (k n : Nat), va_S (AT G H0) H0 H locs → Ob G H x 5 [.ref tp, .int (iI ((gTape g).length : Int)), .int (iI (gFault g)), .int (iI (gTime g)), .int (iI thr), .long (lN (gUse g)), .ref rt, .ref th, .int (iI ↑as.length)] → (RT2 G H x tp th rt as (gTape g) pad cs lz (gTs g)) → (k ≤ mc) → (n ≤ ms) → lv_has ls 6 [(0, .ref x)] → W p l e ⟨2, mc, ms, 42⟩ s m args below meth c H locs k n Q (F0 m 92 ls [.ref x]) := by
    intro fuel
    induction fuel with
    | zero => intro  hf9; exact absurd hf9 (Nat.not_lt_zero _)
    | succ fuel ih_l92 =>
      intro  hf9 hno H locs ls k n hS hx9 hR2 hr1 hr2 hl
      have hx8 := hx9
      refine lv_iconst (v := iI (1)) hx hb dX4_thing_92 rfl ?_
      refine z_put cx (k0 := 4) (vs' := [.ref tp, .int (iI ((gTape g).length : Int)), .int (iI (gFault g)), .int (iI (gTime g)), .int (iI 1), .long (lN (gUse g)), .ref rt, .ref th, .int (iI ↑as.length)]) hx9 hax hS rfl in_X4 tyX4_ok nmX4 (by decide) q1159 rfl rfl  rfl (Nat.le_of_ble_eq_true rfl) ⟨rfl, rfl⟩ dX4_thing_93 (fun H locs hx9 hz9 hq9 hS => ?_)
      have hR2 := hR2.kx hx8 cx.kk hq9
      refine lv_aload_n hx hb dX4_thing_96 rfl (lv_at hl 0 rfl) ?_
      refine z_get cx (k0 := 4) hx9 rfl in_X4 (by decide) q1159 rfl rfl dX4_thing_97 ?_
      refine z_if_eq cx (tgt := 105) dX4_thing_100 (by decide) (by omega) (fun c100 => (by exfalso; exact absurd c100 (by decide))) (fun c100 => ?_)
      refine lv_iconst (v := iI (0)) hx hb dX4_thing_103 rfl ?_
      exact z_iret cx hQ rfl rfl (by rw [hno]; exact ⟨⟨tp, th, rt, as, pad, cs, lz, hx9, hR2, hm, hok⟩, rfl⟩) hS (by omega) dX4_thing_104
  have l88 : ∀ (fuel : Nat) (I a : Nat) (t : Th), 0 < fuel → (i = (I : Int)) → (as[I]? = some a) → ((gTs g)[I]? = some t) → ((0 ≤ w ∧ w ≤ 6) ∨ (100 ≤ w ∧ w < 100 + ((tEtag t).length : Int))) → ∀ (H : Heap) (locs : List Loc) (ls : Array Slot) (k n : Nat), va_S (AT G H0) H0 H locs → Ob G H x 5 [.ref tp, .int (iI ((gTape g).length : Int)), .int (iI (gFault g)), .int (iI (gTime g)), .int (iI thr), .long (lN (gUse g)), .ref rt, .ref th, .int (iI ↑as.length)] → (RT2 G H x tp th rt as (gTape g) pad cs lz (gTs g)) → (k ≤ mc) → (n ≤ ms) → lv_has ls 6 [(0, .ref x), (2, .int (iI w)), (4, .ref a), (5, .int (iI ((tEtag t).length : Int)))] → W p l e ⟨2, mc, ms, 42⟩ s m args below meth c H locs k n Q (F0 m 88 ls [.ref x]) := by
    intro fuel
    induction fuel with
    | zero => intro I a t hf9; exact absurd hf9 (Nat.not_lt_zero _)
    | succ fuel ih_l88 =>
      intro I a t hf9 hI ha ht hww H locs ls k n hS hx9 hR2 hr1 hr2 hl
      have hx8 := hx9
      have hIl := (List.getElem?_eq_some_iff.mp ht).1
      have hta : thgA g i w = if w = 0 then some (tPath t) else if w = 1 then some (agT t (gTime g)) else if w = 2 then some (tLife t) else if w = 3 then some (b2i (frs t (gTime g))) else if w = 4 then some ((tVary t).length : Int) else if w = 5 then some ((tEtag t).length : Int) else if w = 6 then some (b2i (mka (tCc t))) else if 100 ≤ w ∧ w < 100 + ((tEtag t).length : Int) then (tEtag t)[(w - 100).toNat]? else none := by
        unfold thgA
        rw [if_pos (by omega), hI, Int.toNat_natCast, ht]
      refine lv_iconst (v := iI (0)) hx hb dX4_thing_88 rfl ?_
      refine lv_goto (tgt := 93) hx hb dX4_thing_89 (by decide) ?_
      refine z_put cx (k0 := 4) (vs' := [.ref tp, .int (iI ((gTape g).length : Int)), .int (iI (gFault g)), .int (iI (gTime g)), .int (iI 0), .long (lN (gUse g)), .ref rt, .ref th, .int (iI ↑as.length)]) hx9 hax hS rfl in_X4 tyX4_ok nmX4 (by decide) q1159 rfl rfl  rfl (Nat.le_of_ble_eq_true rfl) ⟨rfl, rfl⟩ dX4_thing_93 (fun H locs hx9 hz9 hq9 hS => ?_)
      have hR2 := hR2.kx hx8 cx.kk hq9
      obtain ⟨tok, re, rv, rw9, hOg, hre, hrv, hrw⟩ := hR2.2.2.2.2 I a t ha ht
      have tag := tok.age htm
      have fin : ∀ v : Int, thgA g i w = some v → (RepT G H x (sThr (thgA g i w)) g ∧ (Value.int (iI v)) = .int (iI (sVal (thgA g i w)))) := fun v h => by
        rw [h]; exact ⟨⟨tp, th, rt, as, pad, cs, lz, hx9, hR2, hm, hok⟩, rfl⟩
      refine lv_aload_n hx hb dX4_thing_96 rfl (lv_at hl 0 rfl) ?_
      refine z_get cx (k0 := 4) hx9 rfl in_X4 (by decide) q1159 rfl rfl dX4_thing_97 ?_
      refine z_if_eq cx (tgt := 105) dX4_thing_100 (by decide) (by omega) (fun c100 => ?_) (fun c100 => (by exfalso; exact c100 rfl))
      rcases (show w = 0 ∨ w = 1 ∨ w = 2 ∨ w = 3 ∨ w = 4 ∨ w = 5 ∨ w = 6 ∨ 6 < w by omega) with h | h | h | h | h | h | h | h
      · subst h
        refine lv_iload_n hx hb dX4_thing_105 rfl (lv_at hl 1 rfl) ?_
        refine z_swIn cx (tgt := 148) dX4_thing_106 (by decide) (by decide) rfl (by decide) ?_
        refine lv_aload hx hb dX4_thing_148 (lv_at hl 2 rfl) ?_
        refine z_get cx (k0 := 0) hOg rfl in_X8 (by decide) q1295 rfl rfl dX4_thing_150 ?_
        exact z_iret cx hQ rfl rfl (fin _ hta) hS (by omega) dX4_thing_153
      · subst h
        refine lv_iload_n hx hb dX4_thing_105 rfl (lv_at hl 1 rfl) ?_
        refine z_swIn cx (tgt := 154) dX4_thing_106 (by decide) (by decide) rfl (by decide) ?_
        refine lv_aload_n hx hb dX4_thing_154 rfl (lv_at hl 0 rfl) ?_
        refine lv_aload hx hb dX4_thing_155 (lv_at hl 2 rfl) ?_
        refine z_callV cx (j := 1) (m_X4_ageOf G l _ x a (tAge t) (gTime g) (tSince t) _ _ hx9 hOg rfl rfl rfl (mc := 0) (ms := 0)) (lw_V q1268 q1270 qs22 q57 q1271) (zrecv cx hx9 rfl) (by decide +kernel) rfl (rest := []) rfl hl (Nat.le_of_ble_eq_true rfl) (by decide) (by omega) dX4_thing_157 hS (fun q h => Or.inl (Nat.le_trans hS.1 h)) (fun v157 H locs hp157 hz9 hk9 hS => ?_)
        have hE9 := Ext.of hz9 hk9 (fun q h => h)
        have hx9 := hx9.ext hE9
        have hOg := hOg.ext hE9
        subst hp157
        have fin2 := fin _ hta
        obtain ⟨-, fin3⟩ := fin2
        exact z_iret cx hQ rfl rfl (by rw [hta]; exact ⟨⟨tp, th, rt, as, pad, cs, lz, hx9, hR2.ext hE9, hm, hok⟩, rfl⟩) hS (by omega) dX4_thing_160
      · subst h
        refine lv_iload_n hx hb dX4_thing_105 rfl (lv_at hl 1 rfl) ?_
        refine z_swIn cx (tgt := 161) dX4_thing_106 (by decide) (by decide) rfl (by decide) ?_
        refine lv_aload hx hb dX4_thing_161 (lv_at hl 2 rfl) ?_
        refine z_get cx (k0 := 3) hOg rfl in_X8 (by decide) q1300 rfl rfl dX4_thing_163 ?_
        exact z_iret cx hQ rfl rfl (fin _ hta) hS (by omega) dX4_thing_166
      · subst h
        refine lv_iload_n hx hb dX4_thing_105 rfl (lv_at hl 1 rfl) ?_
        refine z_swIn cx (tgt := 167) dX4_thing_106 (by decide) (by decide) rfl (by decide) ?_
        refine lv_aload_n hx hb dX4_thing_167 rfl (lv_at hl 0 rfl) ?_
        refine lv_aload hx hb dX4_thing_168 (lv_at hl 2 rfl) ?_
        have tagr : rg (tAge t + gTime g - tSince t) ∧ rg (tLife t) := by
          obtain ⟨q1, q2, q3, q4⟩ := tag
          have q1 : -1000000000 ≤ tAge t + gTime g - tSince t := q1
          have q2 : tAge t + gTime g - tSince t ≤ 1001000000 := q2
          omega
        refine z_callV cx (j := 1) (m_X4_isFresh G l _ x a (tLife t) (tAge t) (gTime g) (tSince t) (hasW (tCc t) nNc) _ _ _ _ _ _ _ _ _ hx9 hOg rfl tagr (mc := 0) (ms := 0)) (lw_V q1276 q1278 qs23 q57 q1279) (zrecv cx hx9 rfl) (by decide +kernel) rfl (rest := []) rfl hl (Nat.le_of_ble_eq_true rfl) (by decide) (by omega) dX4_thing_170 hS (fun q h => Or.inl (Nat.le_trans hS.1 h)) (fun v170 H locs hp170 hz9 hk9 hS => ?_)
        have hE9 := Ext.of hz9 hk9 (fun q h => h)
        obtain rfl : v170 = Value.int (iI (b2i (frs t (gTime g)))) := hp170
        have hx9 := hx9.ext hE9
        have hOg := hOg.ext hE9
        have hb170 := b2i_rg (frs t (gTime g))
        have hR2 := hR2.ext hE9
        have fin4 : ∀ b : Bool, b = frs t (gTime g) → RepT G H x (sThr (thgA g i 3)) g ∧ (Value.int (iI (b2i b))) = .int (iI (sVal (thgA g i 3))) := fun b hb => by
          rw [hta]; exact ⟨⟨tp, th, rt, as, pad, cs, lz, hx9, hR2, hm, hok⟩, by rw [hb]; rfl⟩
        refine z_if_eq cx (tgt := 180) dX4_thing_173 (by decide) (by omega) (fun c173 => ?_) (fun c173 => ?_)
        · refine lv_iconst (v := iI (0)) hx hb dX4_thing_180 rfl ?_
          exact z_iret cx hQ rfl rfl (fin4 false (b2i_1.mp c173).symm) hS (by omega) dX4_thing_181
        · refine lv_iconst (v := iI (1)) hx hb dX4_thing_176 rfl ?_
          refine lv_goto (tgt := 181) hx hb dX4_thing_177 (by decide) ?_
          exact z_iret cx hQ rfl rfl (fin4 true (by cases h : frs t (gTime g) with | true => rfl | false => rw [h] at c173; exact absurd rfl c173)) hS (by omega) dX4_thing_181
      · subst h
        refine lv_iload_n hx hb dX4_thing_105 rfl (lv_at hl 1 rfl) ?_
        refine z_swIn cx (tgt := 182) dX4_thing_106 (by decide) (by decide) rfl (by decide) ?_
        refine lv_aload hx hb dX4_thing_182 (lv_at hl 2 rfl) ?_
        refine z_get cx (k0 := 9) hOg rfl in_X8 (by decide) q1306 rfl rfl dX4_thing_184 ?_
        obtain ⟨qs, -, hAq, hOq⟩ := hrv.ors
        have hql : qs.length = (tVary t).length := by rw [hOq.1, List.length_map]
        refine z_alenQ cx (t0 := 5) hAq rfl dX4_thing_187 ?_
        exact z_iret cx hQ rfl rfl (by rw [hql]; exact fin _ hta) hS (by omega) dX4_thing_188
      · subst h
        refine lv_iload_n hx hb dX4_thing_105 rfl (lv_at hl 1 rfl) ?_
        refine z_swIn cx (tgt := 189) dX4_thing_106 (by decide) (by decide) rfl (by decide) ?_
        refine lv_iload hx hb dX4_thing_189 (lv_at hl 3 rfl) ?_
        exact z_iret cx hQ rfl rfl (fin _ hta) hS (by omega) dX4_thing_191
      · subst h
        have hmb := b2i_rg (mka (tCc t))
        refine lv_iload_n hx hb dX4_thing_105 rfl (lv_at hl 1 rfl) ?_
        refine z_swIn cx (tgt := 192) dX4_thing_106 (by decide) (by decide) rfl (by decide) ?_
        refine lv_aload hx hb dX4_thing_192 (lv_at hl 2 rfl) ?_
        refine z_get cx (k0 := 7) hOg rfl in_X8 (by decide) q1304 rfl rfl dX4_thing_194 ?_
        refine z_if_eq cx (tgt := 204) dX4_thing_197 (by decide) (by omega) (fun c197 => ?_) (fun c197 => ?_)
        · refine lv_iconst (v := iI (0)) hx hb dX4_thing_204 rfl ?_
          exact z_iret cx hQ rfl rfl (by have h9 := b2i_1.mp c197; rw [h9] at hta; exact fin _ hta) hS (by omega) dX4_thing_205
        · have h9 : mka (tCc t) = true := by cases h : mka (tCc t) with | true => rfl | false => rw [h] at c197; exact absurd rfl c197
          refine lv_iconst (v := iI (1)) hx hb dX4_thing_200 rfl ?_
          refine lv_goto (tgt := 205) hx hb dX4_thing_201 (by decide) ?_
          exact z_iret cx hQ rfl rfl (by rw [h9] at hta; exact fin _ hta) hS (by omega) dX4_thing_205
      · rw [if_neg (by omega), if_neg (by omega), if_neg (by omega), if_neg (by omega), if_neg (by omega), if_neg (by omega), if_neg (by omega), if_pos (by omega)] at hta
        have hne : tEtag t ≠ [] := by intro h9; rw [h9] at hww; simp at hww; omega
        rw [oet, if_neg hne] at hre
        obtain ⟨ea, rfl, -, hAe⟩ := hre.s
        refine lv_iload_n hx hb dX4_thing_105 rfl (lv_at hl 1 rfl) ?_
        refine z_swOut cx (tgt := 206) dX4_thing_106 (by omega) (by omega) (by decide) ?_
        refine lv_aload hx hb dX4_thing_206 (lv_at hl 2 rfl) ?_
        refine z_get cx (k0 := 8) hOg rfl in_X8 (by decide) q1305 rfl rfl dX4_thing_208 ?_
        refine lv_iload_n hx hb dX4_thing_211 rfl (lv_at hl 1 rfl) ?_
        refine lv_bipush (v := iI (100)) hx hb dX4_thing_212 (by decide) ?_
        refine z_isub cx (z := (((w - 100).toNat : Nat) : Int)) dX4_thing_214 (by omega) ?_
        refine z_iald cx hAe ((w - 100).toNat) (by omega) dX4_thing_215 (fun x215 hx215 => ?_)
        rw [hx215] at hta
        exact z_iret cx hQ rfl rfl (fin _ hta) hS (by omega) dX4_thing_216
  have l16 : ∀ (fuel : Nat) , 0 < fuel → (thgA g i w = none) → ∀ (H : Heap) (locs : List Loc) (ls : Array Slot) (k n : Nat), va_S (AT G H0) H0 H locs → Ob G H x 5 [.ref tp, .int (iI ((gTape g).length : Int)), .int (iI (gFault g)), .int (iI (gTime g)), .int (iI thr), .long (lN (gUse g)), .ref rt, .ref th, .int (iI ↑as.length)] → (RT2 G H x tp th rt as (gTape g) pad cs lz (gTs g)) → (k ≤ mc) → (n ≤ ms) → lv_has ls 6 [(0, .ref x), (1, .int (iI i)), (2, .int (iI w))] → W p l e ⟨2, mc, ms, 42⟩ s m args below meth c H locs k n Q (F0 m 16 ls []) := by
    intro fuel
    induction fuel with
    | zero => intro  hf9; exact absurd hf9 (Nat.not_lt_zero _)
    | succ fuel ih_l16 =>
      intro  hf9 hno H locs ls k n hS hx9 hR2 hr1 hr2 hl
      refine lv_iconst (v := iI (0)) hx hb dX4_thing_16 rfl ?_
      refine lv_istore_n (lv' := [(3, .int (iI 0)), (0, .ref x), (1, .int (iI i)), (2, .int (iI w))]) hx hb dX4_thing_17 rfl hl (by decide) rfl (fun ls hl => ?_)
      refine lv_iload_n hx hb dX4_thing_18 rfl (lv_at hl 0 rfl) ?_
      refine z_if_eq cx (tgt := 31) dX4_thing_19 (by decide) (by omega) (fun c19 => ?_) (fun c19 => (by exfalso; omega))
      refine lv_null hx hb dX4_thing_31 ?_
      refine lv_astoreN (lv' := [(4, .null), (3, .int (iI 0)), (0, .ref x), (1, .int (iI i)), (2, .int (iI w))]) hx hb dX4_thing_32 hl (by decide) rfl (fun ls hl => ?_)
      refine lv_iload_n hx hb dX4_thing_34 rfl (lv_at hl 1 rfl) ?_
      refine z_if_eq cx (tgt := 46) dX4_thing_35 (by decide) (by omega) (fun c35 => ?_) (fun c35 => (by exfalso; omega))
      refine lv_iconst (v := iI (0)) hx hb dX4_thing_46 rfl ?_
      refine lv_goto (tgt := 56) hx hb dX4_thing_47 (by decide) ?_
      refine lv_istore (lv' := [(5, .int (iI 0)), (4, .null), (3, .int (iI 0)), (0, .ref x), (1, .int (iI i)), (2, .int (iI w))]) hx hb dX4_thing_56 hl (by decide) rfl (fun ls hl => ?_)
      refine lv_aload_n hx hb dX4_thing_58 rfl (lv_at hl 3 rfl) ?_
      refine lv_iload_n hx hb dX4_thing_59 rfl (lv_at hl 2 rfl) ?_
      refine z_if_eq cx (tgt := 92) dX4_thing_60 (by decide) (by omega) (fun c60 => ?_) (fun c60 => (by exfalso; omega))
      exact l92 _  (Nat.lt_succ_self _) hno _ _ _ _ _ hS hx9 hR2 (by omega) (by omega) (lv_sub hl [3] rfl)
  refine lv_iload_n hx hb dX4_thing_0 rfl (lv_at hl 1 rfl) ?_
  refine z_if_lt cx (tgt := 16) dX4_thing_1 (by decide) (by omega) (fun c1 => ?_) (fun c1 => ?_)
  · exact l16 _  (Nat.lt_succ_self _) (by unfold thgA; rw [if_neg (by omega)]) _ _ _ _ _ hS hx9 hR2 (by omega) (by omega) (lv_sub hl [0, 1, 2] rfl)
  · refine lv_iload_n hx hb dX4_thing_4 rfl (lv_at hl 1 rfl) ?_
    refine lv_aload_n hx hb dX4_thing_5 rfl (lv_at hl 0 rfl) ?_
    refine z_get cx (k0 := 8) hx9 rfl in_X4 (by decide) q1163 rfl rfl dX4_thing_6 ?_
    refine z_icmp_ge cx (tgt := 16) dX4_thing_9 (by decide) (by omega) (fun c9 => ?_) (fun c9 => ?_)
    · exact l16 _  (Nat.lt_succ_self _) (by unfold thgA; rw [if_neg (by omega)]) _ _ _ _ _ hS hx9 hR2 (by omega) (by omega) (lv_sub hl [0, 1, 2] rfl)
    · obtain ⟨I, hI⟩ : ∃ I : Nat, i = (I : Int) := ⟨i.toNat, by omega⟩
      have hL : (as.map some ++ List.replicate (25 - as.length) none).length = 25 := by rw [List.length_append, List.length_map, List.length_replicate]; omega
      refine lv_iconst (v := iI (1)) hx hb dX4_thing_12 rfl ?_
      refine lv_goto (tgt := 17) hx hb dX4_thing_13 (by decide) ?_
      refine lv_istore_n (lv' := [(3, .int (iI 1)), (0, .ref x), (1, .int (iI i)), (2, .int (iI w))]) hx hb dX4_thing_17 rfl hl (by decide) rfl (fun ls hl => ?_)
      refine lv_iload_n hx hb dX4_thing_18 rfl (lv_at hl 0 rfl) ?_
      refine z_if_eq cx (tgt := 31) dX4_thing_19 (by decide) (by omega) (fun c19 => (by exfalso; omega)) (fun c19 => ?_)
      refine lv_aload_n hx hb dX4_thing_22 rfl (lv_at hl 1 rfl) ?_
      refine z_get cx (k0 := 7) hx9 rfl in_X4 (by decide) q1162 rfl rfl dX4_thing_23 ?_
      refine lv_iload_n hx hb dX4_thing_26 rfl (lv_at hl 2 rfl) ?_
      refine z_aald cx (t0 := 4) hAth rfl rfl (I) (by omega) dX4_thing_27 (fun x27 hx27 => ?_)
      obtain ⟨a, ha, rfl⟩ := gas hx27 (by omega)
      obtain ⟨t, ht, tok, re, rv, rw9, hOg, hre, hrv, hrw⟩ := hR2.2.2.2.get ha
      have htl : (tEtag t).length ≤ 40000 := tok.2.1
      have l58 : ∀ (fuel : Nat) , 0 < fuel → ∀ (H : Heap) (locs : List Loc) (ls : Array Slot) (k n : Nat), va_S (AT G H0) H0 H locs → Ob G H x 5 [.ref tp, .int (iI ((gTape g).length : Int)), .int (iI (gFault g)), .int (iI (gTime g)), .int (iI thr), .long (lN (gUse g)), .ref rt, .ref th, .int (iI ↑as.length)] → (RT2 G H x tp th rt as (gTape g) pad cs lz (gTs g)) → (k ≤ mc) → (n ≤ ms) → lv_has ls 6 [(0, .ref x), (1, .int (iI i)), (2, .int (iI w)), (3, .int (iI 1)), (4, .ref a), (5, .int (iI ((tEtag t).length : Int)))] → W p l e ⟨2, mc, ms, 42⟩ s m args below meth c H locs k n Q (F0 m 58 ls []) := by
        intro fuel
        induction fuel with
        | zero => intro  hf9; exact absurd hf9 (Nat.not_lt_zero _)
        | succ fuel ih_l58 =>
          intro  hf9  H locs ls k n hS hx9 hR2 hr1 hr2 hl
          have hta : ((0 ≤ w ∧ w ≤ 6) ∨ (100 ≤ w ∧ w < 100 + ((tEtag t).length : Int))) ∨ thgA g i w = none := by
            by_cases h : (0 ≤ w ∧ w ≤ 6) ∨ (100 ≤ w ∧ w < 100 + ((tEtag t).length : Int))
            · exact Or.inl h
            · right
              unfold thgA
              rw [if_pos (by omega), hI, Int.toNat_natCast, ht]
              simp only
              rw [if_neg (by omega), if_neg (by omega), if_neg (by omega), if_neg (by omega), if_neg (by omega), if_neg (by omega), if_neg (by omega), if_neg (by omega)]
          have bad : ¬ ((0 ≤ w ∧ w ≤ 6) ∨ (100 ≤ w ∧ w < 100 + ((tEtag t).length : Int))) → thgA g i w = none := fun h => hta.resolve_left h
          refine lv_aload_n hx hb dX4_thing_58 rfl (lv_at hl 0 rfl) ?_
          refine lv_iload_n hx hb dX4_thing_59 rfl (lv_at hl 3 rfl) ?_
          refine z_if_eq cx (tgt := 92) dX4_thing_60 (by decide) (by omega) (fun c60 => (by exfalso; omega)) (fun c60 => ?_)
          refine lv_iload_n hx hb dX4_thing_63 rfl (lv_at hl 2 rfl) ?_
          refine z_if_lt cx (tgt := 73) dX4_thing_64 (by decide) (by omega) (fun c64 => ?_) (fun c64 => ?_)
          · refine lv_iload_n hx hb dX4_thing_73 rfl (lv_at hl 2 rfl) ?_
            refine lv_bipush (v := iI (100)) hx hb dX4_thing_74 (by decide) ?_
            refine z_icmp_lt cx (tgt := 92) dX4_thing_76 (by decide) (by omega) (fun c76 => ?_) (fun c76 => ?_)
            · exact l92 _  (Nat.lt_succ_self _) (bad (by omega)) _ _ _ _ _ hS hx9 hR2 (by omega) (by omega) (lv_sub hl [0] rfl)
            · refine lv_iload_n hx hb dX4_thing_79 rfl (lv_at hl 2 rfl) ?_
              refine lv_bipush (v := iI (100)) hx hb dX4_thing_80 (by decide) ?_
              refine lv_iload hx hb dX4_thing_82 (lv_at hl 5 rfl) ?_
              refine z_iadd cx (z := 100 + ((tEtag t).length : Int)) dX4_thing_84 (by omega) ?_
              refine z_icmp_ge cx (tgt := 92) dX4_thing_85 (by decide) (by omega) (fun c85 => ?_) (fun c85 => ?_)
              · exact l92 _  (Nat.lt_succ_self _) (bad (by omega)) _ _ _ _ _ hS hx9 hR2 (by omega) (by omega) (lv_sub hl [0] rfl)
              · exact l88 _ I a t (Nat.lt_succ_self _) hI ha ht (by omega) _ _ _ _ _ hS hx9 hR2 (by omega) (by omega) (lv_sub hl [0, 2, 4, 5] rfl)
          · refine lv_iload_n hx hb dX4_thing_67 rfl (lv_at hl 2 rfl) ?_
            refine lv_bipush (v := iI (6)) hx hb dX4_thing_68 (by decide) ?_
            refine z_icmp_le cx (tgt := 88) dX4_thing_70 (by decide) (by omega) (fun c70 => ?_) (fun c70 => ?_)
            · exact l88 _ I a t (Nat.lt_succ_self _) hI ha ht (by omega) _ _ _ _ _ hS hx9 hR2 (by omega) (by omega) (lv_sub hl [0, 2, 4, 5] rfl)
            · refine lv_iload_n hx hb dX4_thing_73 rfl (lv_at hl 2 rfl) ?_
              refine lv_bipush (v := iI (100)) hx hb dX4_thing_74 (by decide) ?_
              refine z_icmp_lt cx (tgt := 92) dX4_thing_76 (by decide) (by omega) (fun c76 => ?_) (fun c76 => ?_)
              · exact l92 _  (Nat.lt_succ_self _) (bad (by omega)) _ _ _ _ _ hS hx9 hR2 (by omega) (by omega) (lv_sub hl [0] rfl)
              · refine lv_iload_n hx hb dX4_thing_79 rfl (lv_at hl 2 rfl) ?_
                refine lv_bipush (v := iI (100)) hx hb dX4_thing_80 (by decide) ?_
                refine lv_iload hx hb dX4_thing_82 (lv_at hl 5 rfl) ?_
                refine z_iadd cx (z := 100 + ((tEtag t).length : Int)) dX4_thing_84 (by omega) ?_
                refine z_icmp_ge cx (tgt := 92) dX4_thing_85 (by decide) (by omega) (fun c85 => ?_) (fun c85 => ?_)
                · exact l92 _  (Nat.lt_succ_self _) (bad (by omega)) _ _ _ _ _ hS hx9 hR2 (by omega) (by omega) (lv_sub hl [0] rfl)
                · exact l88 _ I a t (Nat.lt_succ_self _) hI ha ht (by omega) _ _ _ _ _ hS hx9 hR2 (by omega) (by omega) (lv_sub hl [0, 2, 4, 5] rfl)
      refine lv_goto (tgt := 32) hx hb dX4_thing_28 (by decide) ?_
      refine lv_astore (lv' := [(4, .ref a), (3, .int (iI 1)), (0, .ref x), (1, .int (iI i)), (2, .int (iI w))]) hx hb dX4_thing_32 hl (by decide) rfl (fun ls hl => ?_)
      refine lv_iload_n hx hb dX4_thing_34 rfl (lv_at hl 1 rfl) ?_
      refine z_if_eq cx (tgt := 46) dX4_thing_35 (by decide) (by omega) (fun c35 => (by exfalso; omega)) (fun c35 => ?_)
      refine lv_aload hx hb dX4_thing_38 (lv_at hl 0 rfl) ?_
      refine z_get cx (k0 := 8) hOg rfl in_X8 (by decide) q1305 rfl rfl dX4_thing_40 ?_
      by_cases hne : tEtag t = []
      · rw [oet, if_pos hne] at hre
        have hr9 := hre.n
        subst hr9
        refine lv_ifnonnullN hx hb dX4_thing_43 ?_
        refine lv_iconst (v := iI (0)) hx hb dX4_thing_46 rfl ?_
        refine lv_goto (tgt := 56) hx hb dX4_thing_47 (by decide) ?_
        refine lv_istore (lv' := [(5, .int (iI 0)), (4, .ref a), (3, .int (iI 1)), (0, .ref x), (1, .int (iI i)), (2, .int (iI w))]) hx hb dX4_thing_56 hl (by decide) rfl (fun ls hl => ?_)
        have hz9 : ((tEtag t).length : Int) = 0 := by rw [hne]; rfl
        rw [hz9] at l58
        exact l58 _  (Nat.lt_succ_self _)  _ _ _ _ _ hS hx9 hR2 (by omega) (by omega) (lv_sub hl [3, 4, 5, 2, 1, 0] rfl)
      · rw [oet, if_neg hne] at hre
        obtain ⟨ea, rfl, -, hAe⟩ := hre.s
        refine lv_ifnonnull (tgt := 50) hx hb dX4_thing_43 (by decide) ?_
        refine lv_aload hx hb dX4_thing_50 (lv_at hl 0 rfl) ?_
        refine z_get cx (k0 := 8) hOg rfl in_X8 (by decide) q1305 rfl rfl dX4_thing_52 ?_
        refine z_alen cx hAe dX4_thing_55 ?_
        refine lv_istore (lv' := [(5, .int (iI (↑(tEtag t).length))), (4, .ref a), (3, .int (iI 1)), (0, .ref x), (1, .int (iI i)), (2, .int (iI w))]) hx hb dX4_thing_56 hl (by decide) rfl (fun ls hl => ?_)
        exact l58 _  (Nat.lt_succ_self _)  _ _ _ _ _ hS hx9 hR2 (by omega) (by omega) (lv_sub hl [3, 4, 5, 2, 1, 0] rfl)
