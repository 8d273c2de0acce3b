/-! ===== the component: isFor, theOne ===== -/
set_option maxHeartbeats 4000000 in
set_option maxRecDepth 100000 in
theorem m_X1_isFor (G : zE) (l : Launch) (H0 : Heap) (P : Nat → Prop) (x h t y w : Nat) (u0 u1 u3 u4 u5 u6 u7 y0 y1 y4 y5 y6 y7 y8 : Value) (rs : List Nat) (T : Txt) (cs : List Bool) (vs : List (List Int)) (ws : List (Option (List Int))) (hB : Bh G H0) (hx0 : Ob G H0 x 0 [u0, u1, .ref h, u3, u4, u5, u6, u7]) (ht0 : Ob G H0 t 4 [y0, y1, .ref y, .ref w, y4, y5, y6, y7, y8]) (hHR : HR G P H0 h rs T cs) (hnd : rs.Nodup) (hrb : ∀ r ∈ rs, G.2.heap.size ≤ r) (hPn : ∀ q, (H0.size ≤ q ∨ q < G.2.heap.size) → P q) (hPr : ∀ q, P q → q ∉ rs) (hn : T.length ≤ 30000 ∧ vs.length ≤ 40000 ∧ ws.length = vs.length) (hvl : ∀ t ∈ T, t.2.length ≤ 3000) (hy : LSt G P H0 y vs) (hw : LSt G P H0 w (ws.map lsO)) {mc ms : Nat} (hmc : uC cs T ≤ uC (csI T cs vs ws) T + mc) (hms : uS cs T ≤ uS (csI T cs vs ws) T + ms) : zR G l yX1_isFor (ws_ yX1_isFor cX1_isFor 4 (some FieldType.boolean)) 14 319 mc ms [.ref x, .ref t] H0 (fun r H1 => r = .int (iI (b2i (forX T vs ws))) ∧ HR G P H1 h rs T (csI T cs vs ws)) (fun q => H0.size ≤ q ∨ q ∈ rs) := by
  refine zR.start (cc := cX1_isFor) (by decide) (Nat.le_of_ble_eq_true rfl) ?_
  intro p e s m args below meth c Q cx hQ hmn ls hl
  have hx := cx.1
  have hb := cx.2.1
  have hS : va_S (fun q => H0.size ≤ q ∨ q ∈ rs) H0 H0 [] := va_S.rf
  have hl : lv_has ls 4 [(0, .ref x), (1, .ref t)] := hl
  have hB9 := hB.1
  have hBA : ∀ q, (H0.size ≤ q ∨ q ∈ rs) → G.2.heap.size ≤ q := fun q z => by rcases z with z | z; omega; exact hrb q z
  have hcl := hHR.rcl
  have hxr : x ∉ rs := fun z => (hcl x z).ne hx0.cl cx.kk rfl rfl
  have htr : t ∉ rs := fun z => (hcl t z).ne ht0.cl cx.kk rfl rfl
  have hrl : ∀ r ∈ rs, r < H0.size := fun r hr => (hcl r hr).lt
  have hln0 := hHR.len
  refine lv_iconst (v := iI (1)) hx hb dX1_isFor_0 rfl ?_
  refine lv_istore_n (lv' := [(2, .int (iI 1)), (0, .ref x), (1, .ref t)]) hx hb dX1_isFor_1 rfl hl (by decide) rfl (fun ls hl => ?_)
  refine lv_iconst (v := iI (0)) hx hb dX1_isFor_2 rfl ?_
  refine lv_istore_n (lv' := [(3, .int (iI 0)), (2, .int (iI 1)), (0, .ref x), (1, .ref t)]) hx hb dX1_isFor_3 rfl hl (by decide) rfl (fun ls hl => ?_)
  have lp : ∀ (fuel : Nat) (j : Nat) (b : Bool) (fl : List Bool), (vs.length - j) < fuel → (j ≤ vs.length) → ((b = true ∧ forX T vs ws = forX T (vs.drop j) (ws.drop j) ∧ csI T cs vs ws = csI T fl (vs.drop j) (ws.drop j)) ∨ (b = false ∧ forX T vs ws = false ∧ csI T cs vs ws = fl)) → ∀ (H : Heap) (locs : List Loc) (ls : Array Slot) (k n : Nat), va_S (fun q => H0.size ≤ q ∨ q ∈ rs) H0 H locs → Ob G H x 0 [u0, u1, .ref h, u3, u4, u5, u6, u7] → Ob G H t 4 [y0, y1, .ref y, .ref w, y4, y5, y6, y7, y8] → (HR G P H h rs T fl) → (LSt G P H y vs) → (LSt G P H w (ws.map lsO)) → (k + uC fl T ≤ uC cs T) → (n + uS fl T ≤ uS cs T) → lv_has ls 4 [(0, .ref x), (1, .ref t), (2, .int (iI (b2i b))), (3, .int (iI ↑j))] → W p l e ⟨14, mc, ms, 319⟩ s m args below meth c H locs k n Q (F0 m 4 ls []) := by
    intro fuel
    induction fuel with
    | zero => intro j b fl hf9; exact absurd hf9 (Nat.not_lt_zero _)
    | succ fuel ih_lp =>
      intro j b fl hf9 hj hin H locs ls k n hS hx0 ht0 hHR hy hw hr1 hr2 hl
      have hgs7 := hS.1
      have hlf := hHR.len
      have hve2 : fLe T fl (csI T cs vs ws) := by
        rcases hin with ⟨-, -, g⟩ | ⟨-, -, g⟩
        · rw [g]; exact csI_le _ _ fl hlf.2
        · rw [g]; exact fLe.rf hlf.2
      obtain ⟨hve3, hve4, -⟩ := hve2
      obtain ⟨ey, rsy, capy, my, hPy, hy1, hy2, hyp, hy9, hst⟩ := id hy
      refine lv_iload_n hx hb dX1_isFor_4 rfl (lv_at hl 3 rfl) ?_
      refine lv_aload_n hx hb dX1_isFor_5 rfl (lv_at hl 1 rfl) ?_
      refine z_getN cx (k0 := 2) ht0 rfl in_X7 (by decide) q897 rfl rfl dX1_isFor_6 ?_
      refine z_callV cx (j := 0) (m_J2_size G l _ y (rsy.length : Int) (.int (iI my)) (.ref ey) hy1 (mc := 0) (ms := 0)) (lw_V q710 q546 q547 q35 q548) (zrecv cx hy1 rfl) (by decide +kernel) rfl (rest := [.int (iI ↑j)]) rfl hl (Nat.le_of_ble_eq_true rfl) (by decide) (by omega) dX1_isFor_9 hS (fun q h => Or.inl (Nat.le_trans hS.1 h)) (fun v9 H locs hp9 hz9 hk9 hS => ?_)
      have hE9 := Ext.of hz9 hk9 (fun q h => h)
      have hx0 := hx0.ext hE9
      have ht0 := ht0.ext hE9
      have hy1 := hy1.ext hE9
      subst hp9
      have hHR := hHR.ext cx.kk.1 hE9
      have hy := hy.ext cx.kk.1 hE9
      have hw := hw.ext cx.kk.1 hE9
      have hy2 := hy2.ext hE9
      have hst := fun (i r : Nat) (z : List Int) (h1 : rsy[i]? = some r) (h2 : vs[i]? = some z) => (hst i r z h1 h2).ext hE9
      refine z_icmp_ge cx (tgt := 55) dX1_isFor_12 (by decide) (by omega) (fun c12 => ?_) (fun c12 => ?_)
      · have e1 : vs.drop j = [] := List.drop_eq_nil_of_le (by omega)
        have e2 : ws.drop j = [] := List.drop_eq_nil_of_le (by omega)
        rw [e1, e2] at hin
        have hfin : b = forX T vs ws ∧ csI T cs vs ws = fl := by
          rcases hin with ⟨g1, g2, g3⟩ | ⟨g1, g2, g3⟩
          · exact ⟨g1.trans g2.symm, g3⟩
          · exact ⟨g1.trans g2.symm, g3⟩
        rw [← hfin.2] at hHR
        rcases b with _ | _
        · refine lv_iload_n hx hb dX1_isFor_55 rfl (lv_at hl 2 rfl) ?_
          exact z_iret cx hQ rfl rfl (⟨by rw [← hfin.1], hHR⟩) hS (by omega) dX1_isFor_56
        · refine lv_iload_n hx hb dX1_isFor_55 rfl (lv_at hl 2 rfl) ?_
          exact z_iret cx hQ rfl rfl (⟨by rw [← hfin.1], hHR⟩) hS (by omega) dX1_isFor_56
      · have hb20 : b2i false = 0 := rfl
        have hb21 : b2i true = 1 := rfl
        rcases b with _ | _
        · have hfin : forX T vs ws = false ∧ csI T cs vs ws = fl := by
            rcases hin with ⟨g1, -⟩ | ⟨-, g2, g3⟩
            · cases g1
            · exact ⟨g2, g3⟩
          rw [← hfin.2] at hHR
          refine lv_iload_n hx hb dX1_isFor_15 rfl (lv_at hl 2 rfl) ?_
          refine z_if_eq cx (tgt := 55) dX1_isFor_16 (by decide) (by omega) (fun c16 => ?_) (fun c16 => (by exfalso; exact c16 rfl))
          refine lv_iload_n hx hb dX1_isFor_55 rfl (lv_at hl 2 rfl) ?_
          exact z_iret cx hQ rfl rfl (⟨by rw [hfin.1], hHR⟩) hS (by omega) dX1_isFor_56
        · have hin2 : forX T vs ws = forX T (vs.drop j) (ws.drop j) ∧ csI T cs vs ws = csI T fl (vs.drop j) (ws.drop j) := by
            rcases hin with ⟨-, g2, g3⟩ | ⟨g1, -⟩
            · exact ⟨g2, g3⟩
            · cases g1
          clear hin
          obtain ⟨x9, hx9⟩ : ∃ x, vs[j]? = some x := ⟨_, List.getElem?_eq_getElem (by omega)⟩
          obtain ⟨q9, hq9⟩ : ∃ x, ws[j]? = some x := ⟨_, List.getElem?_eq_getElem (by omega)⟩
          obtain ⟨w9, hw9⟩ : ∃ w, rsy[j]? = some w := ⟨_, List.getElem?_eq_getElem (by omega)⟩
          have hgd9 : rsy.getD j 0 = w9 := by rw [List.getD_eq_getElem?_getD, hw9]; rfl
          have hstx := hst j w9 x9 hw9 hx9
          rw [drop_s hx9, drop_s hq9, forX, csI] at hin2
          obtain ⟨Lh, eh, ch, mh, hPh, hPL, hPe, hh, hhL, hhe, hhc, hhN⟩ := id hHR
          refine lv_iload_n hx hb dX1_isFor_15 rfl (lv_at hl 2 rfl) ?_
          refine z_if_eq cx (tgt := 55) dX1_isFor_16 (by decide) (by omega) (fun c16 => (by exfalso; exact absurd c16 (by decide))) (fun c16 => ?_)
          refine lv_aload_n hx hb dX1_isFor_19 rfl (lv_at hl 0 rfl) ?_
          refine z_get cx (k0 := 2) hx0 rfl in_X1 (by decide) q674 rfl rfl dX1_isFor_20 ?_
          refine lv_aload_n hx hb dX1_isFor_23 rfl (lv_at hl 1 rfl) ?_
          refine z_getN cx (k0 := 2) ht0 rfl in_X7 (by decide) q897 rfl rfl dX1_isFor_24 ?_
          refine lv_iload_n hx hb dX1_isFor_27 rfl (lv_at hl 3 rfl) ?_
          refine z_callV cx (j := 1) (m_J2_get G l _ y ey j capy rsy (.int (iI my)) hy1 hy2 ⟨by omega, by omega⟩ (mc := 0) (ms := 0)) (lw_V q711 q550 q551 q35 q552) (zrecv cx hy1 rfl) (by decide +kernel) rfl (rest := [.ref h]) rfl hl (Nat.le_of_ble_eq_true rfl) (by decide) (by omega) dX1_isFor_28 hS (fun q h => Or.inl (Nat.le_trans hS.1 h)) (fun v28 H locs hp28 hz9 hk9 hS => ?_)
          have hE9 := Ext.of hz9 hk9 (fun q h => h)
          have hx0 := hx0.ext hE9
          have ht0 := ht0.ext hE9
          have hy1 := hy1.ext hE9
          have hh := hh.ext hE9
          subst hp28
          have hHR := hHR.ext cx.kk.1 hE9
          have hy := hy.ext cx.kk.1 hE9
          have hw := hw.ext cx.kk.1 hE9
          have hhL := hhL.ext hE9
          have hhe := hhe.ext hE9
          have hhN := hhN.ext hE9
          have hstx := hstx.ext hE9
          rw [hgd9]
          have hstx8 := hstx
          obtain ⟨-, -, -, b8, -, hs8, -⟩ := hstx8
          refine va_castE hx hb cx.wn (cx.ts _ q808) (zrecvS cx hs8) dX1_isFor_31 ?_
          have hxx := hx0
          have htt := ht0
          have hh8 := hh
          have hgs6 := hS.1
          obtain ⟨a1, a2, a3⟩ := fLe.ls x9 hlf.2
          have hlF2 : fLe T (lsF T fl x9) (csI T cs vs ws) := by
            rw [hin2.2]
            split
            · exact csI_le _ _ _ a3
            · exact fLe.rf a3
          obtain ⟨b1, b2, -⟩ := hlF2
          obtain ⟨z9, hz10⟩ : ∃ z, z = H.size := ⟨_, rfl⟩
          refine z_callV cx (j := 1) (m_X2_listed G l _ P _ h Lh eh ch w9 (.int (iI mh)) rs T fl x9 (hB.ofS hS hBA) hh hhL hhe hhN hn.1 hstx hnd hrb hPr hvl (mc := uC fl T - uC (lsF T fl x9) T) (ms := uS fl T - uS (lsF T fl x9) T) (by omega) (by omega)) (lw_V q809 q810 q811 q36 q812) (zrecv cx hh rfl) (by decide +kernel) rfl (rest := []) rfl hl (Nat.le_of_ble_eq_true rfl) (by decide) (by omega) dX1_isFor_34 hS (fun q h => by rcases h with h | h; exact Or.inl (Nat.le_trans hS.1 h); exact Or.inr h) (fun v34 H locs hp34 hz9 hk9 hS => ?_)
          obtain ⟨d9, rfl, hd9, hhN⟩ := hp34
          have kp1 : Kp P _ P H := fun q h1 h2 => ⟨h2, hk9 q h1 (by rintro (z | z); exact absurd h1 (Nat.not_lt.mpr z); exact hPr q h2 z)⟩
          have hx0 := hxx.kept (hk9 x hxx.lt (by rintro (z | z); exact absurd hxx.lt (Nat.not_lt.mpr z); exact hxr z))
          have ht0 := htt.kept (hk9 t htt.lt (by rintro (z | z); exact absurd htt.lt (Nat.not_lt.mpr z); exact htr z))
          have hHR := HR.mk' cx.kk.1 hPh hPL hPe hh8 hhL hhe hhc kp1 (hhN.kp (Q' := P) (Kp.weak (fun q _ z => z.elim id (fun z => hPn q (Or.inl (by have z : _ ≤ q := z; omega))))) (fun _ _ => rfl))
          have hy := hy.kp cx.kk.1 kp1
          have hw := hw.kp cx.kk.1 kp1
          have hd9 := hd9.kp (P' := P) (Kp.weak (fun q _ z => by
            rcases z with z | z | z
            · exact z
            · exact hPn q (Or.inl (by have z : _ ≤ q := z; omega))
            · exact hPn q (Or.inr z)))
          obtain ⟨ew, rsw, capw, mw, hPw, hw1, hw2, hwp, hw0, hstw⟩ := id hw
          rw [List.length_map] at hw0
          obtain ⟨w8, hw8⟩ : ∃ w, rsw[j]? = some w := ⟨_, List.getElem?_eq_getElem (by omega)⟩
          have hgd8 : rsw.getD j 0 = w8 := by rw [List.getD_eq_getElem?_getD, hw8]; rfl
          have hst8 := hstw j w8 (lsO q9) hw8 (by rw [List.getElem?_map, hq9]; rfl)
          have hd8 := hd9
          obtain ⟨-, -, -, b7, -, hs7, -⟩ := hd8
          refine lv_aload_n hx hb dX1_isFor_37 rfl (lv_at hl 1 rfl) ?_
          refine z_getN cx (k0 := 3) ht0 rfl in_X7 (by decide) q899 rfl rfl dX1_isFor_38 ?_
          refine lv_iload_n hx hb dX1_isFor_41 rfl (lv_at hl 3 rfl) ?_
          refine z_callV cx (j := 1) (m_J2_get G l _ w ew j capw rsw (.int (iI mw)) hw1 hw2 ⟨by omega, by omega⟩ (mc := 0) (ms := 0)) (lw_V q711 q550 q551 q35 q552) (zrecv cx hw1 rfl) (by decide +kernel) rfl (rest := [.ref d9]) rfl hl (Nat.le_of_ble_eq_true rfl) (by decide) (by omega) dX1_isFor_42 hS (fun q h => Or.inl (Nat.le_trans hS.1 h)) (fun v42 H locs hp42 hz9 hk9 hS => ?_)
          have hE9 := Ext.of hz9 hk9 (fun q h => h)
          have hx0 := hx0.ext hE9
          have ht0 := ht0.ext hE9
          have hw1 := hw1.ext hE9
          have hs7 := hs7.ext hE9
          subst hp42
          have hHR := hHR.ext cx.kk.1 hE9
          have hy := hy.ext cx.kk.1 hE9
          have hw := hw.ext cx.kk.1 hE9
          have hd9 := hd9.ext hE9
          have hst8 := hst8.ext hE9
          rw [hgd8]
          refine z_callV cx (j := 1) (m_J5_equals G l _ _ _ d9 w8 (lsO (hdV T x9)) (lsO q9) (hB.ofS hS hBA) hd9 hst8 (mc := 0) (ms := 0)) (lw_V q823 q628 q629 q40 q630) (zrecvS cx hs7) (by decide +kernel) rfl (rest := []) rfl hl (Nat.le_of_ble_eq_true rfl) (by decide) (by omega) dX1_isFor_45 hS (fun q h => Or.inl (Nat.le_trans hS.1 h)) (fun v45 H locs hp45 hz9 hk9 hS => ?_)
          have hE9 := Ext.of hz9 hk9 (fun q h => h)
          have hx0 := hx0.ext hE9
          have ht0 := ht0.ext hE9
          have hw1 := hw1.ext hE9
          have hs7 := hs7.ext hE9
          have hb45 := b2i_rg (decide (lsO (hdV T x9) = lsO q9))
          subst hp45
          have hHR := hHR.ext cx.kk.1 hE9
          have hy := hy.ext cx.kk.1 hE9
          have hw := hw.ext cx.kk.1 hE9
          have hi2 : (decide (lsO (hdV T x9) = lsO q9) = true ∧ forX T vs ws = forX T (vs.drop (j + 1)) (ws.drop (j + 1)) ∧ csI T cs vs ws = csI T (lsF T fl x9) (vs.drop (j + 1)) (ws.drop (j + 1))) ∨ (decide (lsO (hdV T x9) = lsO q9) = false ∧ forX T vs ws = false ∧ csI T cs vs ws = lsF T fl x9) := by
            by_cases e : lsO (hdV T x9) = lsO q9
            · refine Or.inl ⟨decide_eq_true e, ?_, ?_⟩
              · rw [hin2.1, decide_eq_true e, Bool.true_and]
              · rw [hin2.2, if_pos e]
            · refine Or.inr ⟨decide_eq_false e, ?_, ?_⟩
              · rw [hin2.1, decide_eq_false e, Bool.false_and]
              · rw [hin2.2, if_neg e]
          clear hwp hPe
          have hj1 : j + 1 ≤ vs.length := by omega
          refine lv_istore_n (lv' := [(2, .int (iI (b2i (decide (lsO (hdV T x9) = lsO q9))))), (0, .ref x), (1, .ref t), (3, .int (iI ↑j))]) hx hb dX1_isFor_48 rfl hl (by decide) rfl (fun ls hl => ?_)
          refine z_iinc cx (j := 3) (z := ((j + 1 : Nat) : Int)) (lv' := [(3, .int (iI ((j + 1 : Nat) : Int))), (2, .int (iI (b2i (decide (lsO (hdV T x9) = lsO q9))))), (0, .ref x), (1, .ref t)]) dX1_isFor_49 hl rfl (by omega) (by decide) rfl (fun ls hl => ?_)
          refine lv_goto (tgt := 4) hx hb dX1_isFor_52 (by decide) ?_
          exact ih_lp (j + 1) (decide (lsO (hdV T x9) = lsO q9)) (lsF T fl x9) (by omega) hj1 hi2 _ _ _ _ _ hS hx0 ht0 hHR hy hw (by omega) (by omega) (lv_sub hl [2, 3, 1, 0] rfl)
  exact lp _ 0 true cs (Nat.lt_succ_self _) (Nat.zero_le _) (Or.inl ⟨rfl, by rw [List.drop_zero, List.drop_zero], by rw [List.drop_zero, List.drop_zero]⟩) _ _ _ _ _ hS hx0 ht0 hHR hy hw (by omega) (by omega) (lv_sub hl [2, 3, 1, 0] rfl)
set_option maxHeartbeats 4000000 in
set_option maxRecDepth 100000 in
theorem m_X1_theOne (G : zE) (l : Launch) (H0 : Heap) (P : Nat → Prop) (x h th ed cap : Nat) (p0 mz : Int) (u0 u3 u4 u5 u6 u7 : Value) (rs as : List Nat) (T : Txt) (cs : List Bool) (ts : List Th) (hB : Bh G H0) (hx0 : Ob G H0 x 0 [u0, .ref th, .ref h, u3, u4, u5, u6, u7]) (hth : Ob G H0 th 8 [.int (iI mz), .ref ed, .int (iI (as.length : Int))]) (hed : EDok G H0 ed as cap) (hHR : HR G P H0 h rs T cs) (hC : CTs G P H0 as ts) (hnd : rs.Nodup) (hrb : ∀ r ∈ rs, G.2.heap.size ≤ r) (hPn : ∀ q, (H0.size ≤ q ∨ q < G.2.heap.size) → P q) (hPr : ∀ q, P q → q ∉ rs) (hn : T.length ≤ 30000 ∧ as.length ≤ 100 ∧ rg p0) (hvl : ∀ t ∈ T, t.2.length ≤ 3000) {mc ms : Nat} (hmc : uC cs T ≤ uC (csO T p0 ts as.length cs) T + mc) (hms : uS cs T ≤ uS (csO T p0 ts as.length cs) T + ms) : zR G l yX1_theOne (ws_ yX1_theOne cX1_theOne 4 (some (FieldType.object "VaryStore$Thing"))) 15 342 mc ms [.ref x, .int (iI p0)] H0 (fun r H1 => HR G P H1 h rs T (csO T p0 ts as.length cs) ∧ ((oneX T p0 ts as.length = -1 ∧ r = .null) ∨ (0 ≤ oneX T p0 ts as.length ∧ r = .ref (as.getD (oneX T p0 ts as.length).toNat 0)))) (fun q => H0.size ≤ q ∨ q ∈ rs) := by
  refine zR.start (cc := cX1_theOne) (by decide) (Nat.le_of_ble_eq_true rfl) ?_
  intro p e s m args below meth c Q cx hQ hmn ls hl
  have hx := cx.1
  have hb := cx.2.1
  have hS : va_S (fun q => H0.size ≤ q ∨ q ∈ rs) H0 H0 [] := va_S.rf
  have hl : lv_has ls 4 [(0, .ref x), (1, .int (iI p0))] := hl
  have hB9 := hB.1
  have hBA : ∀ q, (H0.size ≤ q ∨ q ∈ rs) → G.2.heap.size ≤ q := fun q z => by rcases z with z | z; omega; exact hrb q z
  have hcl := hHR.rcl
  have hxr : x ∉ rs := fun z => (hcl x z).ne hx0.cl cx.kk rfl rfl
  have htr : th ∉ rs := fun z => (hcl th z).ne hth.cl cx.kk rfl rfl
  have hdr : ed ∉ rs := fun z => hed.ne cx.kk (hcl ed z) (hrb ed z) rfl rfl
  have har : ∀ a ∈ as, a ∉ rs := fun a ha z => by obtain ⟨t, ht⟩ := hC.get ha; exact (hcl a z).ne ht.cl cx.kk rfl rfl
  have hrl : ∀ r ∈ rs, r < H0.size := fun r hr => (hcl r hr).lt
  have hln0 := hHR.len
  obtain ⟨v1, v2, -⟩ := csO_le (p0 := p0) (ts := ts) as.length cs hln0.2
  refine lv_aload_n hx hb dX1_theOne_0 rfl (lv_at hl 0 rfl) ?_
  refine z_get cx (k0 := 1) hx0 rfl in_X1 (by decide) q673 rfl rfl dX1_theOne_1 ?_
  refine z_callV cx (j := 0) (m_J2_size G l _ th (as.length : Int) (.int (iI mz)) (.ref ed) hth (mc := 0) (ms := 0)) (lw_V q710 q546 q547 q35 q548) (zrecv cx hth rfl) (by decide +kernel) rfl (rest := []) rfl hl (Nat.le_of_ble_eq_true rfl) (by decide) (by omega) dX1_theOne_4 hS (fun q h => Or.inl (Nat.le_trans hS.1 h)) (fun v4 H locs hp4 hz9 hk9 hS => ?_)
  have hE9 := Ext.of hz9 hk9 (fun q h => h)
  have hx0 := hx0.ext hE9
  have hth := hth.ext hE9
  have hed := hed.ext hE9
  subst hp4
  have hHR := hHR.ext cx.kk.1 hE9
  have hC := hC.ext cx.kk.1 hE9
  refine lv_iconst (v := iI (1)) hx hb dX1_theOne_7 rfl ?_
  refine z_isub cx (z := (as.length : Int) - 1) dX1_theOne_8 (by omega) ?_
  refine lv_istore_n (lv' := [(2, .int (iI ((as.length : Int) - 1))), (0, .ref x), (1, .int (iI p0))]) hx hb dX1_theOne_9 rfl hl (by decide) rfl (fun ls hl => ?_)
  have lp : ∀ (fuel : Nat) (j : Nat) (w : Value) (fl : List Bool), j < fuel → (j ≤ as.length) → (oneX T p0 ts as.length = oneX T p0 ts j) → (csO T p0 ts as.length cs = csO T p0 ts j fl) → ∀ (H : Heap) (locs : List Loc) (ls : Array Slot) (k n : Nat), va_S (fun q => H0.size ≤ q ∨ q ∈ rs) H0 H locs → Ob G H x 0 [u0, .ref th, .ref h, u3, u4, u5, u6, u7] → Ob G H th 8 [.int (iI mz), .ref ed, .int (iI ↑as.length)] → EDok G H ed as cap → (HR G P H h rs T fl) → (CTs G P H as ts) → (k + uC fl T ≤ uC cs T) → (n + uS fl T ≤ uS cs T) → lv_has ls 4 [(0, .ref x), (1, .int (iI p0)), (2, .int (iI (↑j - 1)))] → W p l e ⟨15, mc, ms, 342⟩ s m args below meth c H locs k n Q (F0 m 10 ls []) := by
    intro fuel
    induction fuel with
    | zero => intro j w fl hf9; exact absurd hf9 (Nat.not_lt_zero _)
    | succ fuel ih_lp =>
      intro j w fl hf9 hj h1 h2 H locs ls k n hS hx0 hth hed hHR hC hr1 hr2 hl
      have hgs7 := hS.1
      have hlf := hHR.len
      obtain ⟨hv1, hv2, -⟩ := csO_le (p0 := p0) (ts := ts) j fl hlf.2
      rw [← h2] at hv1 hv2
      refine lv_iload_n hx hb dX1_theOne_10 rfl (lv_at hl 2 rfl) ?_
      refine z_if_lt cx (tgt := 50) dX1_theOne_11 (by decide) (by omega) (fun c11 => ?_) (fun c11 => ?_)
      · have hj0 : j = 0 := by omega
        subst hj0
        refine lv_null hx hb dX1_theOne_50 ?_
        exact z_nret cx hQ rfl (Or.inl ⟨_, rfl⟩) (⟨by rw [h2]; exact hHR, Or.inl ⟨h1, rfl⟩⟩) hS (by omega) dX1_theOne_51
      · obtain ⟨i9, rfl⟩ : ∃ i9, j = i9 + 1 := ⟨j - 1, by omega⟩
        have e9 : ((i9 + 1 : Nat) : Int) - 1 = (i9 : Int) := by omega
        rw [e9] at hl
        obtain ⟨a9, ha9⟩ : ∃ w, as[i9]? = some w := ⟨_, List.getElem?_eq_getElem (by omega)⟩
        have hgd9 : as.getD i9 0 = a9 := by rw [List.getD_eq_getElem?_getD, ha9]; rfl
        obtain ⟨t9, ht9, ho9, e0, v0, w0, co0, hOt, hE0, hV0, hW0, hC0⟩ := hC.at ha9
        obtain ⟨k1, k2, k3, k4, k5, k6, k7, k8, k9, k10, k11, k12⟩ := ho9
        rw [oneX, ht9] at h1
        rw [csO, ht9] at h2
        have h1 : oneX T p0 ts as.length = if tPath t9 = p0 ∧ forX T (tVary t9) (tVals t9) = true then (i9 : Int) else oneX T p0 ts i9 := h1
        have h2 : csO T p0 ts as.length cs = if tPath t9 = p0 then (if forX T (tVary t9) (tVals t9) = true then csI T fl (tVary t9) (tVals t9) else csO T p0 ts i9 (csI T fl (tVary t9) (tVals t9))) else csO T p0 ts i9 fl := h2
        refine lv_aload_n hx hb dX1_theOne_14 rfl (lv_at hl 0 rfl) ?_
        refine z_get cx (k0 := 1) hx0 rfl in_X1 (by decide) q673 rfl rfl dX1_theOne_15 ?_
        refine lv_iload_n hx hb dX1_theOne_18 rfl (lv_at hl 2 rfl) ?_
        refine z_callV cx (j := 1) (m_J2_get G l _ th ed i9 cap as (.int (iI mz)) hth hed ⟨by omega, by omega⟩ (mc := 0) (ms := 0)) (lw_V q711 q550 q551 q35 q552) (zrecv cx hth rfl) (by decide +kernel) rfl (rest := []) rfl hl (Nat.le_of_ble_eq_true rfl) (by decide) (by omega) dX1_theOne_19 hS (fun q h => Or.inl (Nat.le_trans hS.1 h)) (fun v19 H locs hp19 hz9 hk9 hS => ?_)
        have hE9 := Ext.of hz9 hk9 (fun q h => h)
        have hx0 := hx0.ext hE9
        have hth := hth.ext hE9
        have hed := hed.ext hE9
        have hOt := hOt.ext hE9
        subst hp19
        have hHR := hHR.ext cx.kk.1 hE9
        have hC := hC.ext cx.kk.1 hE9
        have hV0 := hV0.ext cx.kk.1 hE9
        have hW0 := hW0.ext cx.kk.1 hE9
        rw [hgd9]
        refine va_castE hx hb cx.wn (cx.ts _ q712) (zrecv cx hOt rfl) dX1_theOne_22 ?_
        refine lv_astore_n (lv' := [(3, .ref a9), (0, .ref x), (1, .int (iI p0)), (2, .int (iI ↑i9))]) hx hb dX1_theOne_25 rfl hl (by decide) rfl (fun ls hl => ?_)
        refine lv_aload_n hx hb dX1_theOne_26 rfl (lv_at hl 0 rfl) ?_
        refine z_getN cx (k0 := 0) hOt rfl in_X7 (by decide) q893 rfl rfl dX1_theOne_27 ?_
        refine lv_iload_n hx hb dX1_theOne_30 rfl (lv_at hl 2 rfl) ?_
        refine z_icmp_ne cx (tgt := 44) dX1_theOne_31 (by decide) (by omega) (fun c31 => ?_) (fun c31 => ?_)
        · rw [if_neg (fun z => c31 z.1)] at h1
          rw [if_neg c31] at h2
          refine z_iinc cx (j := 3) (z := (i9 : Int) - 1) (lv' := [(2, .int (iI ((i9 : Int) - 1))), (3, .ref a9), (0, .ref x), (1, .int (iI p0))]) dX1_theOne_44 hl rfl (by omega) (by decide) rfl (fun ls hl => ?_)
          refine lv_goto (tgt := 10) hx hb dX1_theOne_47 (by decide) ?_
          exact ih_lp i9 (.ref a9) fl (by omega) (by omega) h1 h2 _ _ _ _ _ hS hx0 hth hed hHR hC (by omega) (by omega) (lv_sub hl [2, 3, 0] rfl)
        · rw [if_pos c31] at h2
          obtain ⟨a1, a2, a3⟩ := csI_le (tVary t9) (tVals t9) fl hlf.2
          have hb9 : uC (csO T p0 ts as.length cs) T ≤ uC (csI T fl (tVary t9) (tVals t9)) T ∧ uS (csO T p0 ts as.length cs) T ≤ uS (csI T fl (tVary t9) (tVals t9)) T := by
            rw [h2]
            split
            · exact ⟨Nat.le_refl _, Nat.le_refl _⟩
            · have := csO_le (p0 := p0) (ts := ts) i9 _ a3
              exact ⟨this.1, this.2.1⟩
          obtain ⟨b1, b2⟩ := hb9
          refine lv_aload_n hx hb dX1_theOne_34 rfl (lv_at hl 1 rfl) ?_
          refine lv_aload_n hx hb dX1_theOne_35 rfl (lv_at hl 0 rfl) ?_
          have hxx := hx0
          have htt := hth
          have hee := hed
          have hgs6 := hS.1
          refine z_callV cx (j := 1) (m_X1_isFor G l _ P x h a9 v0 w0 u0 (.ref th) u3 u4 u5 u6 u7 (.int (iI (tPath t9))) (.ref e0) (.ref co0) (.int (iI (tLife t9))) (.int (iI (tAge t9))) (.int (iI (tSince t9))) (.int (iI (tUsed t9 : Int))) rs T fl (tVary t9) (tVals t9) (hB.ofS hS hBA) hx0 hOt hHR hnd hrb (fun q z => hPn q (z.imp (fun z => Nat.le_trans hgs6 z) id)) hPr ⟨hn.1, k4, k5⟩ hvl hV0 hW0 (mc := uC fl T - uC (csI T fl (tVary t9) (tVals t9)) T) (ms := uS fl T - uS (csI T fl (tVary t9) (tVals t9)) T) (by omega) (by omega)) (lw_V q804 q806 qs12 q32 q807) (zrecv cx hx0 rfl) (by decide +kernel) rfl (rest := []) rfl hl (Nat.le_of_ble_eq_true rfl) (by decide) (by omega) dX1_theOne_36 hS (fun q h => by rcases h with h | h; exact Or.inl (Nat.le_trans hS.1 h); exact Or.inr h) (fun v36 H locs hp36 hz9 hk9 hS => ?_)
          obtain ⟨rfl, hHR⟩ := hp36
          have hb36 := b2i_rg (forX T (tVary t9) (tVals t9))
          have kp1 : Kp P _ P H := fun q h1 h2 => ⟨h2, hk9 q h1 (by rintro (z | z); exact absurd h1 (Nat.not_lt.mpr z); exact hPr q h2 z)⟩
          have kr : ∀ q : Nat, q < _ → q ∉ rs → H[q]? = _ := fun q h1 h2 => hk9 q h1 (by rintro (z | z); exact absurd h1 (Nat.not_lt.mpr z); exact h2 z)
          have hx0 := hxx.kept (kr x hxx.lt hxr)
          have hth := htt.kept (kr th htt.lt htr)
          have hed := hee.kept (fun hl _ => kr ed hl hdr)
          have hC := hC.kp cx.kk.1 kp1 (fun a ha => by obtain ⟨t, ht⟩ := hC.get ha; exact kr a ht.lt (har a ha))
          refine z_if_eq cx (tgt := 44) dX1_theOne_39 (by decide) (by omega) (fun c39 => ?_) (fun c39 => ?_)
          · have hf : forX T (tVary t9) (tVals t9) = false := by
              cases hq : forX T (tVary t9) (tVals t9) with
              | false => rfl
              | true => rw [hq] at c39; exact absurd c39 (by decide)
            rw [if_neg (fun z => by rw [hf] at z; exact absurd z.2 (by decide))] at h1
            rw [if_neg (by rw [hf]; decide)] at h2
            refine z_iinc cx (j := 3) (z := (i9 : Int) - 1) (lv' := [(2, .int (iI ((i9 : Int) - 1))), (3, .ref a9), (0, .ref x), (1, .int (iI p0))]) dX1_theOne_44 hl rfl (by omega) (by decide) rfl (fun ls hl => ?_)
            refine lv_goto (tgt := 10) hx hb dX1_theOne_47 (by decide) ?_
            exact ih_lp i9 (.ref a9) (csI T fl (tVary t9) (tVals t9)) (by omega) (by omega) h1 h2 _ _ _ _ _ hS hx0 hth hed hHR hC (by omega) (by omega) (lv_sub hl [2, 3, 0] rfl)
          · have hf : forX T (tVary t9) (tVals t9) = true := by
              cases hq : forX T (tVary t9) (tVals t9) with
              | true => rfl
              | false => rw [hq] at c39; exact absurd rfl c39
            rw [if_pos ⟨c31, hf⟩] at h1
            rw [if_pos hf] at h2
            refine lv_aload_n hx hb dX1_theOne_42 rfl (lv_at hl 0 rfl) ?_
            exact z_aret cx hQ rfl (Or.inl ⟨_, rfl⟩) (⟨by rw [h2]; exact hHR, Or.inr ⟨by omega, by rw [h1, Int.toNat_natCast, hgd9]⟩⟩) hS (by omega) dX1_theOne_43
  exact lp _ as.length .null cs (Nat.lt_succ_self _) (Nat.le_refl _) rfl rfl _ _ _ _ _ hS hx0 hth hed hHR hC (by omega) (by omega) (lv_sub hl [1, 2, 0] rfl)
