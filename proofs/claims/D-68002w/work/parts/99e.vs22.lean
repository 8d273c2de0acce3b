/-! ===== the component: thing ===== -/
set_option maxHeartbeats 4000000 in
set_option maxRecDepth 100000 in
theorem m_X1_thing (G : zE) (l : Launch) (H0 : Heap) (hl0 : l.stackTraces = false) (x : Nat) (i w : Int) (cs : List Bool) (g : Sg) (hB : Bh G H0) (hR : RepC G H0 x cs g) (hi : rg i) (hw : rg w) {mc ms : Nat} (hmc : 1 ≤ mc) (hms : 6 ≤ ms) : zX G l yX1_thing (ws_ yX1_thing cX1_thing 5 (some FieldType.int)) 6 128 mc ms [.ref x, .int (iI i), .int (iI w)] H0 exNE (fun r H1 => RepC G H1 x cs g ∧ ∃ v : Int, thgA g i w = some v ∧ r = .int (iI v)) (fun H1 => thgA g i w = none ∧ RepC G H1 x cs g) (AC G H0) := by
  refine zX.start (cc := cX1_thing) (by decide) (Nat.le_of_ble_eq_true rfl) ?_
  intro p e s m args below meth c Q cx hQ htb ls hl
  have hx := cx.1
  have hb := cx.2.1
  have hS : va_S (AC G H0) H0 H0 [] := va_S.rf
  have hl : lv_has ls 5 [(0, .ref x), (1, .int (iI i)), (2, .int (iI w))] := hl
  have hB9 := hB.1
  have hBA : ∀ q, AC G H0 q → G.2.heap.size ≤ q := AC.own hB
  have hE0 : Ext H0 H0 := Ext.rf
  have hR0 := hR
  obtain ⟨tp, th, ed, cap, rq, wi, mz, as, rs, pad, hx0, ⟨g1, g2, g3, g4, g5, g6⟩, hm, hok, htz⟩ := hR
  have hlen := g6.1
  have htm := hok.2.2.2.1
  have hn24 := hok.2.2.2.2.1
  have l81 : ∀ (fuel : Nat) , 0 < fuel → (thgA g i w = none) → ∀ (H : Heap) (locs : List Loc) (ls : Array Slot) (k n : Nat), va_S (AC G H0) H0 H locs → (Ext H0 H) → (k + 1 ≤ mc) → (n + 6 ≤ ms) → lv_has ls 5 [(0, .ref x)] → W p l e ⟨6, mc, ms, 128⟩ s m args below meth c H locs k n Q (F0 m 81 ls []) := by
    intro fuel
    induction fuel with
    | zero => intro  hf9; exact absurd hf9 (Nat.not_lt_zero _)
    | succ fuel ih_l81 =>
      intro  hf9 hno H locs ls k n hS hE0 hr1 hr2 hl
      obtain ⟨la81, ltx, lR, lS81⟩ := lit_X1_257 cx.kk.1
      subst hQ
      exact z_throwNE cx htb hl0 hB hBA hl lR hS dX1_thing_81 dX1_thing_84 dX1_thing_85 dX1_thing_88 dX1_thing_91 (by decide) (Nat.le_of_ble_eq_true rfl) (by omega) (fun H1 hE => ⟨hno, hR0.ext cx.kk.1 (hE0.trans hE)⟩)
  have l15 : ∀ (fuel : Nat) , 0 < fuel → (thgA g i w = none) → ∀ (H : Heap) (locs : List Loc) (ls : Array Slot) (k n : Nat), va_S (AC G H0) H0 H locs → (Ext H0 H) → (k + 1 ≤ mc) → (n + 6 ≤ ms) → lv_has ls 5 [(0, .ref x), (1, .int (iI i)), (2, .int (iI w))] → W p l e ⟨6, mc, ms, 128⟩ s m args below meth c H locs k n Q (F0 m 15 ls []) := by
    intro fuel
    induction fuel with
    | zero => intro  hf9; exact absurd hf9 (Nat.not_lt_zero _)
    | succ fuel ih_l15 =>
      intro  hf9 hno H locs ls k n hS hE0 hr1 hr2 hl
      refine lv_null hx hb dX1_thing_15 ?_
      refine lv_goto (tgt := 30) hx hb dX1_thing_16 (by decide) ?_
      refine lv_astore_nN (lv' := [(3, .null), (0, .ref x), (1, .int (iI i)), (2, .int (iI w))]) hx hb dX1_thing_30 rfl hl (by decide) rfl (fun ls hl => ?_)
      refine lv_aload_nN hx hb dX1_thing_31 rfl (lv_at hl 0 rfl) ?_
      refine lv_ifnullN (tgt := 59) hx hb dX1_thing_32 (by decide) ?_
      refine lv_iconst (v := iI (0)) hx hb dX1_thing_59 rfl ?_
      refine lv_istore (lv' := [(4, .int (iI 0)), (3, .null), (0, .ref x), (1, .int (iI i)), (2, .int (iI w))]) hx hb dX1_thing_60 hl (by decide) rfl (fun ls hl => ?_)
      refine lv_aload_nN hx hb dX1_thing_62 rfl (lv_at hl 1 rfl) ?_
      refine lv_ifnullN (tgt := 81) hx hb dX1_thing_63 (by decide) ?_
      exact l81 _  (Nat.lt_succ_self _) hno _ _ _ _ _ hS hE0 (by omega) (by omega) (lv_sub hl [2] rfl)
  have hx1 := hx0
  have hth := g2
  have hed := g3
  refine lv_iload_n hx hb dX1_thing_0 rfl (lv_at hl 1 rfl) ?_
  refine z_if_lt cx (tgt := 15) dX1_thing_1 (by decide) (by omega) (fun c1 => ?_) (fun c1 => ?_)
  · exact l15 _  (Nat.lt_succ_self _) (by unfold thgA; rw [if_neg (by omega)]) _ _ _ _ _ hS hE0 (by omega) (by omega) (lv_sub hl [0, 1, 2] rfl)
  · refine lv_iload_n hx hb dX1_thing_4 rfl (lv_at hl 1 rfl) ?_
    refine lv_aload_n hx hb dX1_thing_5 rfl (lv_at hl 0 rfl) ?_
    refine z_get cx (k0 := 1) hx1 rfl in_X1 (by decide) q673 rfl rfl dX1_thing_6 ?_
    refine z_callV cx (j := 0) (m_J2_size G l _ th (as.length : Int) (.int (iI mz)) (.ref ed) hth (mc := 0) (ms := 0)) (lw_V q710 q546 q547 q35 q548) (zrecv cx hth rfl) (by decide +kernel) rfl (rest := [.int (iI i)]) rfl hl (Nat.le_of_ble_eq_true rfl) (by decide) (by omega) dX1_thing_9 hS (fun q h => Or.inl (Nat.le_trans hS.1 h)) (fun v9 H locs hp9 hz9 hk9 hS => ?_)
    have hE9 := Ext.of hz9 hk9 (fun q h => h)
    have hx1 := hx1.ext hE9
    have hth := hth.ext hE9
    have hed := hed.ext hE9
    subst hp9
    have hE0 := hE0.trans hE9
    refine z_icmp_lt cx (tgt := 19) dX1_thing_12 (by decide) (by omega) (fun c12 => ?_) (fun c12 => ?_)
    · obtain ⟨I, hI⟩ : ∃ I : Nat, i = (I : Int) := ⟨i.toNat, by omega⟩
      subst hI
      obtain ⟨a9, ha9⟩ : ∃ z, as[I]? = some z := ⟨_, List.getElem?_eq_getElem (by omega)⟩
      have hgd9 : as.getD I 0 = a9 := by rw [List.getD_eq_getElem?_getD, ha9]; rfl
      obtain ⟨t9, ht9, ho9, e0, v0, w0, co0, hOb, hEb, hVb, -, hCb⟩ := g6.at ha9
      have tag := ho9.age htm
      have hle := ho9.2.1
      have hta : thgA g I w = if w = 0 then some (tPath t9) else if w = 1 then some (agT t9 (gTime g)) else if w = 2 then some (tLife t9) else if w = 3 then some (b2i (frs t9 (gTime g))) else if w = 4 then some ((tVary t9).length : Int) else if w = 5 then some ((tEtag t9).length : Int) else if w = 6 then some (b2i (mka (tCc t9))) else if 100 ≤ w ∧ w < 100 + ((tEtag t9).length : Int) then (tEtag t9)[(w - 100).toNat]? else none := by
        unfold thgA
        rw [if_pos (by omega), Int.toNat_natCast, ht9]
      have hno9 : ¬ ((0 ≤ w ∧ w ≤ 6) ∨ (100 ≤ w ∧ w < 100 + ((tEtag t9).length : Int))) → thgA g I w = none := fun h => by
        rw [hta, if_neg (by omega), if_neg (by omega), if_neg (by omega), if_neg (by omega), if_neg (by omega), if_neg (by omega), if_neg (by omega), if_neg (by omega)]
      have hO9 := hOb.ext hE0
      refine lv_aload_n hx hb dX1_thing_19 rfl (lv_at hl 0 rfl) ?_
      refine z_get cx (k0 := 1) hx1 rfl in_X1 (by decide) q673 rfl rfl dX1_thing_20 ?_
      refine lv_iload_n hx hb dX1_thing_23 rfl (lv_at hl 1 rfl) ?_
      refine z_callV cx (j := 1) (m_J2_get G l _ th ed I cap as (.int (iI mz)) hth hed ⟨by omega, by omega⟩ (mc := 0) (ms := 0)) (lw_V q711 q550 q551 q35 q552) (zrecv cx hth rfl) (by decide +kernel) rfl (rest := []) rfl hl (Nat.le_of_ble_eq_true rfl) (by decide) (by omega) dX1_thing_24 hS (fun q h => Or.inl (Nat.le_trans hS.1 h)) (fun v24 H locs hp24 hz9 hk9 hS => ?_)
      have hE9 := Ext.of hz9 hk9 (fun q h => h)
      have hx1 := hx1.ext hE9
      have hth := hth.ext hE9
      have hed := hed.ext hE9
      have hO9 := hO9.ext hE9
      subst hp24
      have hE0 := hE0.trans hE9
      rw [hgd9]
      refine va_castE hx hb cx.wn (cx.ts _ q712) (zrecv cx hO9 rfl) dX1_thing_27 ?_
      have l92 : ∀ (fuel : Nat) , 0 < fuel → ((0 ≤ w ∧ w ≤ 6) ∨ (100 ≤ w ∧ w < 100 + ((tEtag t9).length : Int))) → ∀ (H : Heap) (locs : List Loc) (ls : Array Slot) (k n : Nat), va_S (AC G H0) H0 H locs → (Ext H0 H) → (k ≤ mc) → (n ≤ ms) → lv_has ls 5 [(0, .ref x), (2, .int (iI w)), (3, .ref a9)] → W p l e ⟨6, mc, ms, 128⟩ s m args below meth c H locs k n Q (F0 m 92 ls []) := by
        intro fuel
        induction fuel with
        | zero => intro  hf9; exact absurd hf9 (Nat.not_lt_zero _)
        | succ fuel ih_l92 =>
          intro  hf9 hww H locs ls k n hS hE0 hr1 hr2 hl
          have hx1 := hx0.ext hE0
          have hO9 := hOb.ext hE0
          have hE1 := hEb.ext hE0
          have hV9 := hVb.ext cx.kk.1 hE0
          have hC9 := hCb.ext cx.kk.1 hE0
          have hRf := hR0.ext cx.kk.1 hE0
          obtain ⟨-, -, -, b8, -, hs8, -⟩ := id hE1
          obtain ⟨edv, rsv, capv, mzv, -, hv2, -, -, hv5, -⟩ := id hV9
          obtain ⟨-, nl0, ul0, hc8, -⟩ := id hC9
          have tagr : rg (tLife t9) ∧ rg (tAge t9 + gTime g - tSince t9) := by
            obtain ⟨q1, q2, q3, q4⟩ := tag
            have q1 : -1000000000 ≤ tAge t9 + gTime g - tSince t9 := q1
            have q2 : tAge t9 + gTime g - tSince t9 ≤ 1001000000 := q2
            omega
          rcases (show w = 0 ∨ w = 1 ∨ w = 2 ∨ w = 3 ∨ w = 4 ∨ w = 5 ∨ w = 6 ∨ 6 < w by omega) with h | h | h | h | h | h | h | h
          · subst h
            refine lv_iload_n hx hb dX1_thing_92 rfl (lv_at hl 1 rfl) ?_
            refine z_swIn cx (tgt := 136) dX1_thing_93 (by decide) (by decide) rfl (by decide) ?_
            refine lv_aload_n hx hb dX1_thing_136 rfl (lv_at hl 2 rfl) ?_
            refine z_getN cx (k0 := 0) hO9 rfl in_X7 (by decide) q893 rfl rfl dX1_thing_137 ?_
            subst hQ
            exact vx_ret (z_iret cx rfl rfl rfl (⟨hRf, tPath t9, hta, rfl⟩) hS (by omega) dX1_thing_140)
          · subst h
            refine lv_iload_n hx hb dX1_thing_92 rfl (lv_at hl 1 rfl) ?_
            refine z_swIn cx (tgt := 141) dX1_thing_93 (by decide) (by decide) rfl (by decide) ?_
            refine lv_aload_n hx hb dX1_thing_141 rfl (lv_at hl 2 rfl) ?_
            refine lv_aload_n hx hb dX1_thing_142 rfl (lv_at hl 0 rfl) ?_
            refine z_get cx (k0 := 6) hx1 rfl in_X1 (by decide) q678 rfl rfl dX1_thing_143 ?_
            refine z_callV cx (j := 1) (m_X7_ageAt G l _ a9 (gTime g) (tAge t9) (tSince t9) _ _ _ _ _ _ _ hO9 (mc := 0) (ms := 0)) (lw_V q828 q829 q830 q60 q831) (zrecv cx hO9 rfl) (by decide +kernel) rfl (rest := []) rfl hl (Nat.le_of_ble_eq_true rfl) (by decide) (by omega) dX1_thing_146 hS (fun q h => Or.inl (Nat.le_trans hS.1 h)) (fun v146 H locs hp146 hz9 hk9 hS => ?_)
            have hE9 := Ext.of hz9 hk9 (fun q h => h)
            have hx1 := hx1.ext hE9
            have hO9 := hO9.ext hE9
            have hs8 := hs8.ext hE9
            have hv2 := hv2.ext hE9
            subst hp146
            subst hQ
            exact vx_ret (z_iret cx rfl rfl rfl (⟨hRf.ext cx.kk.1 hE9, agT t9 (gTime g), hta, rfl⟩) hS (by omega) dX1_thing_149)
          · subst h
            refine lv_iload_n hx hb dX1_thing_92 rfl (lv_at hl 1 rfl) ?_
            refine z_swIn cx (tgt := 150) dX1_thing_93 (by decide) (by decide) rfl (by decide) ?_
            refine lv_aload_n hx hb dX1_thing_150 rfl (lv_at hl 2 rfl) ?_
            refine z_getN cx (k0 := 5) hO9 rfl in_X7 (by decide) q903 rfl rfl dX1_thing_151 ?_
            subst hQ
            exact vx_ret (z_iret cx rfl rfl rfl (⟨hRf, tLife t9, hta, rfl⟩) hS (by omega) dX1_thing_154)
          · subst h
            refine lv_iload_n hx hb dX1_thing_92 rfl (lv_at hl 1 rfl) ?_
            refine z_swIn cx (tgt := 155) dX1_thing_93 (by decide) (by decide) rfl (by decide) ?_
            refine lv_aload_n hx hb dX1_thing_155 rfl (lv_at hl 2 rfl) ?_
            refine lv_aload_n hx hb dX1_thing_156 rfl (lv_at hl 0 rfl) ?_
            refine z_get cx (k0 := 6) hx1 rfl in_X1 (by decide) q678 rfl rfl dX1_thing_157 ?_
            refine z_callV cx (j := 1) (m_X7_isFresh G l _ _ a9 co0 (ctL (tCc t9)) (gTime g) (tLife t9) (tAge t9) (tSince t9) _ _ _ _ _ (hB.ofS hS hBA) hO9 hC9 tagr (mc := 0) (ms := 0)) (lw_V q848 q849 q850 q60 q851) (zrecv cx hO9 rfl) (by decide +kernel) rfl (rest := []) rfl hl (Nat.le_of_ble_eq_true rfl) (by decide) (by omega) dX1_thing_160 hS (fun q h => Or.inl (Nat.le_trans hS.1 h)) (fun v160 H locs hp160 hz9 hk9 hS => ?_)
            have hE9 := Ext.of hz9 hk9 (fun q h => h)
            have hx1 := hx1.ext hE9
            have hO9 := hO9.ext hE9
            have hs8 := hs8.ext hE9
            have hv2 := hv2.ext hE9
            have hb160 := b2i_rg (frX (ctL (tCc t9)) (tLife t9) (tAge t9) (tSince t9) (gTime g))
            subst hp160
            have hRf := hRf.ext cx.kk.1 hE9
            rw [frX_eq]
            refine z_callS cx (j := 1) (m_X1_bit G l _ (frs t9 (gTime g)) (mc := 0) (ms := 0)) (lw_S q1117 q1118 q32 q1119) (by decide +kernel) rfl (rest := []) rfl hl (Nat.le_of_ble_eq_true rfl) (by decide) (by omega) dX1_thing_163 hS (fun q h => Or.inl (Nat.le_trans hS.1 h)) (fun v163 H locs hp163 hz9 hk9 hS => ?_)
            have hE9 := Ext.of hz9 hk9 (fun q h => h)
            have hx1 := hx1.ext hE9
            have hO9 := hO9.ext hE9
            have hs8 := hs8.ext hE9
            have hv2 := hv2.ext hE9
            have hb163 := b2i_rg (frs t9 (gTime g))
            subst hp163
            subst hQ
            exact vx_ret (z_iret cx rfl rfl rfl (⟨hRf.ext cx.kk.1 hE9, b2i (frs t9 (gTime g)), hta, rfl⟩) hS (by omega) dX1_thing_166)
          · subst h
            refine lv_iload_n hx hb dX1_thing_92 rfl (lv_at hl 1 rfl) ?_
            refine z_swIn cx (tgt := 167) dX1_thing_93 (by decide) (by decide) rfl (by decide) ?_
            refine lv_aload_n hx hb dX1_thing_167 rfl (lv_at hl 2 rfl) ?_
            refine z_getN cx (k0 := 2) hO9 rfl in_X7 (by decide) q897 rfl rfl dX1_thing_168 ?_
            refine z_callV cx (j := 0) (m_J2_size G l _ v0 (rsv.length : Int) (.int (iI mzv)) (.ref edv) hv2 (mc := 0) (ms := 0)) (lw_V q710 q546 q547 q35 q548) (zrecv cx hv2 rfl) (by decide +kernel) rfl (rest := []) rfl hl (Nat.le_of_ble_eq_true rfl) (by decide) (by omega) dX1_thing_171 hS (fun q h => Or.inl (Nat.le_trans hS.1 h)) (fun v171 H locs hp171 hz9 hk9 hS => ?_)
            have hE9 := Ext.of hz9 hk9 (fun q h => h)
            have hx1 := hx1.ext hE9
            have hO9 := hO9.ext hE9
            have hs8 := hs8.ext hE9
            have hv2 := hv2.ext hE9
            subst hp171
            subst hQ
            exact vx_ret (z_iret cx rfl rfl rfl (⟨hRf.ext cx.kk.1 hE9, (rsv.length : Int), (show thgA g I 4 = some ((tVary t9).length : Int) from hta).trans (by rw [hv5.1]), rfl⟩) hS (by omega) dX1_thing_174)
          · subst h
            refine lv_iload_n hx hb dX1_thing_92 rfl (lv_at hl 1 rfl) ?_
            refine z_swIn cx (tgt := 175) dX1_thing_93 (by decide) (by decide) rfl (by decide) ?_
            refine lv_aload_n hx hb dX1_thing_175 rfl (lv_at hl 2 rfl) ?_
            refine z_getN cx (k0 := 1) hO9 rfl in_X7 (by decide) q895 rfl rfl dX1_thing_176 ?_
            refine z_callV cx (j := 0) (m_J5_length G l _ _ e0 (tEtag t9) (hB.ofS hS hBA) hE1 (mc := 0) (ms := 0)) (lw_V q156 q157 q158 q40 q159) (zrecvS cx hs8) (by decide +kernel) rfl (rest := []) rfl hl (Nat.le_of_ble_eq_true rfl) (by decide) (by omega) dX1_thing_179 hS (fun q h => Or.inl (Nat.le_trans hS.1 h)) (fun v179 H locs hp179 hz9 hk9 hS => ?_)
            have hE9 := Ext.of hz9 hk9 (fun q h => h)
            have hx1 := hx1.ext hE9
            have hO9 := hO9.ext hE9
            have hs8 := hs8.ext hE9
            have hv2 := hv2.ext hE9
            subst hp179
            subst hQ
            exact vx_ret (z_iret cx rfl rfl rfl (⟨hRf.ext cx.kk.1 hE9, ((tEtag t9).length : Int), hta, rfl⟩) hS (by omega) dX1_thing_182)
          · subst h
            refine lv_iload_n hx hb dX1_thing_92 rfl (lv_at hl 1 rfl) ?_
            refine z_swIn cx (tgt := 183) dX1_thing_93 (by decide) (by decide) rfl (by decide) ?_
            refine lv_aload_n hx hb dX1_thing_183 rfl (lv_at hl 2 rfl) ?_
            refine z_callV cx (j := 0) (m_X7_isStrict G l _ _ a9 co0 (ctL (tCc t9)) _ _ _ _ _ _ _ _ (hB.ofS hS hBA) hO9 hC9 (mc := 0) (ms := 0)) (lw_V q856 q857 q858 q60 q859) (zrecv cx hO9 rfl) (by decide +kernel) rfl (rest := []) rfl hl (Nat.le_of_ble_eq_true rfl) (by decide) (by omega) dX1_thing_184 hS (fun q h => Or.inl (Nat.le_trans hS.1 h)) (fun v184 H locs hp184 hz9 hk9 hS => ?_)
            have hE9 := Ext.of hz9 hk9 (fun q h => h)
            have hx1 := hx1.ext hE9
            have hO9 := hO9.ext hE9
            have hs8 := hs8.ext hE9
            have hv2 := hv2.ext hE9
            have hb184 := b2i_rg (stX (ctL (tCc t9)))
            subst hp184
            have hRf := hRf.ext cx.kk.1 hE9
            rw [stX_eq]
            refine z_callS cx (j := 1) (m_X1_bit G l _ (mka (tCc t9)) (mc := 0) (ms := 0)) (lw_S q1117 q1118 q32 q1119) (by decide +kernel) rfl (rest := []) rfl hl (Nat.le_of_ble_eq_true rfl) (by decide) (by omega) dX1_thing_187 hS (fun q h => Or.inl (Nat.le_trans hS.1 h)) (fun v187 H locs hp187 hz9 hk9 hS => ?_)
            have hE9 := Ext.of hz9 hk9 (fun q h => h)
            have hx1 := hx1.ext hE9
            have hO9 := hO9.ext hE9
            have hs8 := hs8.ext hE9
            have hv2 := hv2.ext hE9
            have hb187 := b2i_rg (mka (tCc t9))
            subst hp187
            subst hQ
            exact vx_ret (z_iret cx rfl rfl rfl (⟨hRf.ext cx.kk.1 hE9, b2i (mka (tCc t9)), hta, rfl⟩) hS (by omega) dX1_thing_190)
          · obtain ⟨c9, hc9⟩ : ∃ z, (tEtag t9)[(w - 100).toNat]? = some z := ⟨_, List.getElem?_eq_getElem (by omega)⟩
            rw [if_neg (by omega), if_neg (by omega), if_neg (by omega), if_neg (by omega), if_neg (by omega), if_neg (by omega), if_neg (by omega), if_pos (by omega), hc9] at hta
            refine lv_iload_n hx hb dX1_thing_92 rfl (lv_at hl 1 rfl) ?_
            refine z_swOut cx (tgt := 191) dX1_thing_93 (by omega) (by omega) (by decide) ?_
            refine lv_aload_n hx hb dX1_thing_191 rfl (lv_at hl 2 rfl) ?_
            refine z_getN cx (k0 := 1) hO9 rfl in_X7 (by decide) q895 rfl rfl dX1_thing_192 ?_
            refine lv_iload_n hx hb dX1_thing_195 rfl (lv_at hl 1 rfl) ?_
            refine lv_bipush (v := iI (100)) hx hb dX1_thing_196 (by decide) ?_
            refine z_isub cx (z := (((w - 100).toNat : Nat) : Int)) dX1_thing_198 (by omega) ?_
            refine z_callV cx (j := 1) (m_J5_charAt G l _ _ e0 (w - 100).toNat (tEtag t9) c9 (hB.ofS hS hBA) hE1 hc9 (mc := 0) (ms := 0)) (lw_V q165 q166 q167 q40 q168) (zrecvS cx hs8) (by decide +kernel) rfl (rest := []) rfl hl (Nat.le_of_ble_eq_true rfl) (by decide) (by omega) dX1_thing_199 hS (fun q h => Or.inl (Nat.le_trans hS.1 h)) (fun v199 H locs hp199 hz9 hk9 hS => ?_)
            have hE9 := Ext.of hz9 hk9 (fun q h => h)
            have hx1 := hx1.ext hE9
            have hO9 := hO9.ext hE9
            have hs8 := hs8.ext hE9
            have hv2 := hv2.ext hE9
            subst hp199
            subst hQ
            exact vx_ret (z_iret cx rfl rfl rfl (⟨hRf.ext cx.kk.1 hE9, c9, hta, rfl⟩) hS (by omega) dX1_thing_202)
      have l60 : ∀ (fuel : Nat) (b : Bool), 0 < fuel → (b = decide (100 ≤ w ∧ w < 100 + ((tEtag t9).length : Int))) → ∀ (H : Heap) (locs : List Loc) (ls : Array Slot) (k n : Nat), va_S (AC G H0) H0 H locs → (Ext H0 H) → (k + 1 ≤ mc) → (n + 6 ≤ ms) → lv_has ls 5 [(0, .ref x), (2, .int (iI w)), (3, .ref a9)] → W p l e ⟨6, mc, ms, 128⟩ s m args below meth c H locs k n Q (F0 m 60 ls [.int (iI (b2i b))]) := by
        intro fuel
        induction fuel with
        | zero => intro b hf9; exact absurd hf9 (Nat.not_lt_zero _)
        | succ fuel ih_l60 =>
          intro b hf9 hb9 H locs ls k n hS hE0 hr1 hr2 hl
          have hrb := b2i_rg b
          refine lv_istore (lv' := [(4, .int (iI (b2i b))), (0, .ref x), (2, .int (iI w)), (3, .ref a9)]) hx hb dX1_thing_60 hl (by decide) rfl (fun ls hl => ?_)
          refine lv_aload_n hx hb dX1_thing_62 rfl (lv_at hl 3 rfl) ?_
          refine lv_ifnull hx hb dX1_thing_63 ?_
          refine lv_iload_n hx hb dX1_thing_66 rfl (lv_at hl 2 rfl) ?_
          refine z_if_lt cx (tgt := 81) dX1_thing_67 (by decide) (by omega) (fun c67 => ?_) (fun c67 => ?_)
          · exact l81 _  (Nat.lt_succ_self _) (hno9 (by omega)) _ _ _ _ _ hS hE0 (by omega) (by omega) (lv_sub hl [1] rfl)
          · refine lv_iload_n hx hb dX1_thing_70 rfl (lv_at hl 2 rfl) ?_
            refine lv_bipush (v := iI (6)) hx hb dX1_thing_71 (by decide) ?_
            refine z_icmp_le cx (tgt := 92) dX1_thing_73 (by decide) (by omega) (fun c73 => ?_) (fun c73 => ?_)
            · exact l92 _  (Nat.lt_succ_self _) (Or.inl ⟨by omega, by omega⟩) _ _ _ _ _ hS hE0 (by omega) (by omega) (lv_sub hl [1, 2, 3] rfl)
            · refine lv_iload hx hb dX1_thing_76 (lv_at hl 0 rfl) ?_
              refine z_if_ne cx (tgt := 92) dX1_thing_78 (by decide) (by omega) (fun c78 => ?_) (fun c78 => ?_)
              · exact l92 _  (Nat.lt_succ_self _) (Or.inr (of_decide_eq_true (hb9.symm.trans (b2i_ne0 c78)))) _ _ _ _ _ hS hE0 (by omega) (by omega) (lv_sub hl [1, 2, 3] rfl)
              · have hbf := of_decide_eq_false (hb9.symm.trans (b2i_eq0 c78))
                exact l81 _  (Nat.lt_succ_self _) (hno9 (by omega)) _ _ _ _ _ hS hE0 (by omega) (by omega) (lv_sub hl [1] rfl)
      refine lv_astore_n (lv' := [(3, .ref a9), (0, .ref x), (1, .int (iI ↑I)), (2, .int (iI w))]) hx hb dX1_thing_30 rfl hl (by decide) rfl (fun ls hl => ?_)
      refine lv_aload_n hx hb dX1_thing_31 rfl (lv_at hl 0 rfl) ?_
      refine lv_ifnull hx hb dX1_thing_32 ?_
      refine lv_iload_n hx hb dX1_thing_35 rfl (lv_at hl 3 rfl) ?_
      refine lv_bipush (v := iI (100)) hx hb dX1_thing_36 (by decide) ?_
      refine z_icmp_lt cx (tgt := 59) dX1_thing_38 (by decide) (by omega) (fun c38 => ?_) (fun c38 => ?_)
      · refine lv_iconst (v := iI (0)) hx hb dX1_thing_59 rfl ?_
        exact l60 _ false (Nat.lt_succ_self _) (decide_eq_false (by omega)).symm _ _ _ _ _ hS hE0 (by omega) (by omega) (lv_sub hl [1, 3, 0] rfl)
      · have hE1 := hEb.ext hE0
        obtain ⟨-, -, -, b8, -, hs8, -⟩ := id hE1
        refine lv_iload_n hx hb dX1_thing_41 rfl (lv_at hl 3 rfl) ?_
        refine lv_bipush (v := iI (100)) hx hb dX1_thing_42 (by decide) ?_
        refine z_isub cx (z := w - 100) dX1_thing_44 (by omega) ?_
        refine lv_aload_n hx hb dX1_thing_45 rfl (lv_at hl 0 rfl) ?_
        refine z_getN cx (k0 := 1) hO9 rfl in_X7 (by decide) q895 rfl rfl dX1_thing_46 ?_
        refine z_callV cx (j := 0) (m_J5_length G l _ _ e0 (tEtag t9) (hB.ofS hS hBA) hE1 (mc := 0) (ms := 0)) (lw_V q156 q157 q158 q40 q159) (zrecvS cx hs8) (by decide +kernel) rfl (rest := [.int (iI (w - 100))]) rfl hl (Nat.le_of_ble_eq_true rfl) (by decide) (by omega) dX1_thing_49 hS (fun q h => Or.inl (Nat.le_trans hS.1 h)) (fun v49 H locs hp49 hz9 hk9 hS => ?_)
        have hE9 := Ext.of hz9 hk9 (fun q h => h)
        have hx1 := hx1.ext hE9
        have hth := hth.ext hE9
        have hed := hed.ext hE9
        have hO9 := hO9.ext hE9
        have hs8 := hs8.ext hE9
        subst hp49
        have hE0 := hE0.trans hE9
        refine z_icmp_ge cx (tgt := 59) dX1_thing_52 (by decide) (by omega) (fun c52 => ?_) (fun c52 => ?_)
        · refine lv_iconst (v := iI (0)) hx hb dX1_thing_59 rfl ?_
          exact l60 _ false (Nat.lt_succ_self _) (decide_eq_false (by omega)).symm _ _ _ _ _ hS hE0 (by omega) (by omega) (lv_sub hl [1, 3, 0] rfl)
        · refine lv_iconst (v := iI (1)) hx hb dX1_thing_55 rfl ?_
          refine lv_goto (tgt := 60) hx hb dX1_thing_56 (by decide) ?_
          exact l60 _ true (Nat.lt_succ_self _) (decide_eq_true ⟨by omega, by omega⟩).symm _ _ _ _ _ hS hE0 (by omega) (by omega) (lv_sub hl [1, 3, 0] rfl)
    · exact l15 _  (Nat.lt_succ_self _) (by unfold thgA; rw [if_neg (by omega)]) _ _ _ _ _ hS hE0 (by omega) (by omega) (lv_sub hl [0, 1, 2] rfl)
