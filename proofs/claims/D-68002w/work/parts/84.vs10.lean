/-! ===== the component: a line of the tape ===== -/
set_option maxHeartbeats 4000000 in
set_option maxRecDepth 100000 in
theorem m_X1_line (G : zE) (l : Launch) (H0 : Heap) (P : Nat → Prop) (x tp th rq wi h L ed cap a : Nat) (mz fa ti us : Int) (tx pad : List Int) (rs : List Nat) (T : Txt) (cs : List Bool) (hB : Bh G H0) (hbd : G.2.heap.size ≤ x ∧ G.2.heap.size ≤ h ∧ G.2.heap.size ≤ L) (hx0 : Ob G H0 x 0 [.ref tp, .ref th, .ref rq, .ref wi, .int (iI (tx.length : Int)), .int (iI fa), .int (iI ti), .int (iI us)]) (ht0 : Ai G H0 tp 100 (tx ++ pad)) (htc : chs tx ∧ chs pad ∧ tx.length ≤ 300) (ha : a < tx.length) (hrb : ∀ r ∈ rs, G.2.heap.size ≤ r) (hnd : rs.Nodup) (hh0 : Ob G H0 h 1 [.ref L]) (hL0 : Ob G H0 L 8 [.int (iI mz), .ref ed, .int (iI (rs.length : Int))]) (hed0 : EDok G H0 ed rs cap) (hN0 : LnB G (HQ G P L ed rs) H0 rs T cs) (hPn : ∀ q, (H0.size ≤ q ∨ q < G.2.heap.size) → P q) (hPx : ∀ q, P q → q ≠ x) (hn : T.length ≤ 5000 ∧ cap ≤ 20000 ∧ (∀ t ∈ T, t.2.length ≤ 3000) ∧ ∀ nm, oL (hdV T nm) ≤ tx.length) {mc ms : Nat} (hmc : 2 * (lnE tx a - a) + 25 ≤ mc) (hms : 16 * (lnE tx a - a) + 300 + 4 * tx.length + (if cap < (lnT tx a T).length then gr cap else 0) ≤ ms) : zR G l yX1_line (ws_ yX1_line cX1_line 8 (some FieldType.int)) 17 384 mc ms [.ref x, .ref h, .int (iI ↑a)] H0 (fun r H1 => r = .int (iI ((lnE tx a + 1 : Nat) : Int)) ∧ ∃ (d : Nat) (rs' : List Nat) (cs' : List Bool) (mz' : Int), Ob G H1 x 0 [.ref tp, .ref th, .ref rq, .ref wi, .int (iI (tx.length : Int)), .int (iI (if okl tx a = true then fa else (a : Int))), .int (iI ti), .int (iI us)] ∧ Ob G H1 h 1 [.ref L] ∧ Ob G H1 L 8 [.int (iI mz'), .ref d, .int (iI (rs'.length : Int))] ∧ EDok G H1 d rs' (if cap < (lnT tx a T).length then gr cap else cap) ∧ LnB G (HQ G P L d rs') H1 rs' (lnT tx a T) cs' ∧ rs'.Nodup ∧ (d = ed ∨ H0.size ≤ d) ∧ (∀ r ∈ rs', r ∈ rs ∨ H0.size ≤ r)) (fun q => H0.size ≤ q ∨ HM G L ed rs q ∨ q = x) := by
  refine zR.start (cc := cX1_line) (by decide) (Nat.le_of_ble_eq_true rfl) ?_
  intro p e s m args below meth c Q cx hQ hmn ls hl
  have hx := cx.1
  have hb := cx.2.1
  have hS : va_S (fun q => H0.size ≤ q ∨ HM G L ed rs q ∨ q = x) H0 H0 [] := va_S.rf
  have hl : lv_has ls 8 [(0, .ref x), (1, .ref h), (2, .int (iI ↑a))] := hl
  have hB9 := hB.1
  have hBA : ∀ q, (H0.size ≤ q ∨ HM G L ed rs q ∨ q = x) → G.2.heap.size ≤ q := fun q z => by rcases z with z | (z | z | z) | z; omega; omega; exact z.1; exact hrb q z; omega
  have hML : ∀ q, HM G L ed rs q → q < H0.size := fun q z => by
    rcases z with z | z | z
    · rw [z]; exact hL0.lt
    · rw [z.2]; exact hed0.edlt cx.kk.1 (z.2 ▸ z.1)
    · obtain ⟨t, cb, ht⟩ := hN0.get z; exact ht.lt
  have hMB : ∀ q, HM G L ed rs q → G.2.heap.size ≤ q := fun q z => by rcases z with z | z | z; omega; exact z.1; exact hrb q z
  have toQ : ∀ q, (H0.size ≤ q ∨ q < G.2.heap.size) → HQ G P L ed rs q := fun q z => ⟨hPn q z, fun w => by have h1 := hML q w; have h2 := hMB q w; rcases z with z | z <;> omega⟩
  have hxl := hx0.lt
  have hxL : x ≠ L := hx0.cl.ne hL0.cl cx.kk rfl
  have hxh : x ≠ h := hx0.cl.ne hh0.cl cx.kk rfl
  have hxM : ¬ HM G L ed rs x := fun z => by
    rcases z with z | z | z
    · exact hxL z
    · exact hed0.ne cx.kk hx0.cl hbd.1 rfl z.2.symm
    · obtain ⟨t, cb, ht⟩ := hN0.get z; exact hx0.cl.ne ht.cl cx.kk rfl rfl
  obtain ⟨E, hE⟩ : ∃ E, E = lnE tx a := ⟨_, rfl⟩
  obtain ⟨K, hK⟩ : ∃ K, K = lnK tx a := ⟨_, rfl⟩
  have hEr := nxt_le (cs := tx) (x := 10) (Nat.le_of_lt ha)
  have hEo := nxt_or (cs := tx) (x := 10) ⟨Nat.le_of_lt ha, Nat.le_refl _⟩
  rw [show nxt tx 10 a tx.length = E from hE.symm] at hEr hEo
  have hKr := nxt_le (cs := tx) (x := 58) hEr.1
  rw [show nxt tx 58 a E = K by rw [hK, hE]] at hKr
  have hKE0 : nxt tx 58 a E = K := by rw [hK, hE]
  have hokl : okl tx a = (decide (E < tx.length ∧ K < E) && isNm (sl tx a K)) := by rw [okl_iff, hE, hK]
  obtain ⟨G1, hG1⟩ : ∃ G1, G1 = (if cap < (lnT tx a T).length then gr cap else 0) := ⟨_, rfl⟩
  rw [← hG1, ← hE] at hms
  rw [← hE] at hmc
  have hLt : (tx ++ pad).length = tx.length + pad.length := List.length_append
  have hcall : chs (tx ++ pad) := chs_app htc.1 htc.2.1
  have hX : Ext H0 H0 := Ext.rf
  refine z_new cx (ci := 9) (vs := [.null, .int (iI 0), .int (iI 0), .int (iI 0)]) hS rfl in_J4 tyJ4_ok q125 q126 q39 (zdefJ4) (by omega) dX1_line_0 (fun w H hw hgw Aw hz9 hE9 hS => ?_)
  refine lv_dup hx hb dX1_line_3 rfl ?_
  have hw0 := hgw
  refine z_callI cx (j := 0) (m_J4_init G l _ w (.int (iI 0)) (.int (iI 0)) (hB.ofS hS hBA) (by omega) Aw (mc := 1) (ms := 16) (Nat.le_refl _) (Nat.le_refl _)) (lw_meth q129) q39 q127 q128 rfl (by decide +kernel) rfl (rest := [.ref w]) rfl hl (Nat.le_of_ble_eq_true rfl) (by decide) (by omega) dX1_line_4 hS (fun q h => by rcases h with h | h; exact Or.inl (Nat.le_trans hS.1 h); exact Or.inl (by omega)) (fun H locs hp4 hz9 hk9 hS => ?_)
  obtain ⟨d, hgd, hw, Ad⟩ := hp4
  have hX : Ext H0 H := ⟨hS.1, fun q hq => (hk9 q (by omega) (by rintro (z | z) <;> omega)).trans (hE9.2 q hq)⟩
  refine lv_astore_n (lv' := [(3, .ref w), (0, .ref x), (1, .ref h), (2, .int (iI ↑a))]) hx hb dX1_line_7 rfl hl (by decide) rfl (fun ls hl => ?_)
  refine lv_iload_n hx hb dX1_line_8 rfl (lv_at hl 3 rfl) ?_
  refine lv_istore (lv' := [(4, .int (iI ↑a)), (3, .ref w), (0, .ref x), (1, .ref h), (2, .int (iI ↑a))]) hx hb dX1_line_9 hl (by decide) rfl (fun ls hl => ?_)
  have lp : ∀ (fuel : Nat) (j b r : Nat) (Y : List Int), (E - j) < fuel → (a ≤ j ∧ j ≤ E) → (Y = sl tx a j) → (∀ c ∈ sl tx a j, c ≠ 10) → (H0.size ≤ b) → (Y.length + r ≤ 2 * (E - a) + 16) → ∀ (H : Heap) (locs : List Loc) (ls : Array Slot) (k n : Nat), va_S (fun q => H0.size ≤ q ∨ HM G L ed rs q ∨ q = x) H0 H locs → Ob G H w 9 [.ref b, .int (iI 0), .int (iI 0), .int (iI ↑Y.length)] → Ai G H b 100 (Y ++ List.replicate r 0) → (Ext H0 H) → (k + (E - j) + (E - a) + 21 ≤ mc) → (n + 4 * (E - a) + 32 + 8 * (E - a) + 240 + 4 * tx.length + G1 ≤ ms + 2 * (Y.length + r)) → lv_has ls 8 [(0, .ref x), (1, .ref h), (2, .int (iI ↑a)), (3, .ref w), (4, .int (iI ↑j))] → W p l e ⟨17, mc, ms, 384⟩ s m args below meth c H locs k n Q (F0 m 11 ls []) := by
    intro fuel
    induction fuel with
    | zero => intro j b r Y hf9; exact absurd hf9 (Nat.not_lt_zero _)
    | succ fuel ih_lp =>
      intro j b r Y hf9 hj hY hno hgb hcap H locs ls k n hS hw Ab hX hr1 hr2 hl
      have hlY : Y.length = j - a := by rw [hY, sl_len (by omega)]
      have hcY : chs Y := by rw [hY]; exact chs_sl htc.1 _ _
      have hx1 := hx0.ext hX
      have ht1 := ht0.ext hX
      have l51 : ∀ (fuel : Nat) , 0 < fuel → (j = E) → ∀ (H : Heap) (locs : List Loc) (ls : Array Slot) (k n : Nat), va_S (fun q => H0.size ≤ q ∨ HM G L ed rs q ∨ q = x) H0 H locs → Ob G H w 9 [.ref b, .int (iI 0), .int (iI 0), .int (iI ↑Y.length)] → Ai G H b 100 (Y ++ List.replicate r 0) → (Ext H0 H) → (k + (E - a) + 21 ≤ mc) → (n + 8 * (E - a) + 240 + 4 * tx.length + G1 ≤ ms) → lv_has ls 8 [(0, .ref x), (1, .ref h), (2, .int (iI ↑a)), (3, .ref w), (4, .int (iI ↑j))] → W p l e ⟨17, mc, ms, 384⟩ s m args below meth c H locs k n Q (F0 m 51 ls []) := by
        intro fuel
        induction fuel with
        | zero => intro  hf9; exact absurd hf9 (Nat.not_lt_zero _)
        | succ fuel ih_l51 =>
          intro  hf9 hjE H locs ls k n hS hw Ab hX hr1 hr2 hl
          have hYE : Y = sl tx a E := by rw [hY, hjE]
          have hgs := hS.1
          refine lv_aload_n hx hb dX1_line_51 rfl (lv_at hl 3 rfl) ?_
          refine z_callV cx (j := 0) (m_J4_toString G l _ w b r Y (.int (iI 0)) (hB.ofS hS hBA) hw Ab hcY (by omega) (mc := 2) (ms := Y.length + 4) (Nat.le_refl _) (Nat.le_refl _)) (lw_V q278 q279 q280 q39 q281) (zrecv cx hw rfl) (by decide +kernel) rfl (rest := []) rfl hl (Nat.le_of_ble_eq_true rfl) (by decide) (by omega) dX1_line_52 hS (fun q h => Or.inl (Nat.le_trans hS.1 h)) (fun v52 H locs hp52 hz9 hk9 hS => ?_)
          have hE9 := Ext.of hz9 hk9 (fun q h => h)
          obtain ⟨t, rfl, ht⟩ := hp52
          have hw := hw.ext hE9
          have Ab := Ab.ext hE9
          have hX := hX.trans hE9
          have ht := ht.kp (P' := Pur H0) (Kp.weak (fun q _ z => Nat.le_trans hgs z))
          rw [hYE] at ht
          obtain ⟨-, -, -, bt, -, hst, -⟩ := id ht
          have hsl : (sl tx a E).length = E - a := sl_len (by omega)
          refine lv_astore (lv' := [(5, .ref t), (0, .ref x), (1, .ref h), (2, .int (iI ↑a)), (3, .ref w), (4, .int (iI ↑j))]) hx hb dX1_line_55 hl (by decide) rfl (fun ls hl => ?_)
          refine lv_aload hx hb dX1_line_57 (lv_at hl 0 rfl) ?_
          refine lv_bipush (v := iI (58)) hx hb dX1_line_59 (by decide) ?_
          refine z_callV cx (j := 1) (m_J5_indexOf G l _ _ t (sl tx a E) 58 (hB.ofS hS hBA) ht (by omega) (mc := 0) (ms := 0)) (lw_V q738 q567 q568 q40 q569) (zrecvS cx hst) (by decide +kernel) rfl (rest := []) rfl hl (Nat.le_of_ble_eq_true rfl) (by decide) (by omega) dX1_line_61 hS (fun q h => Or.inl (Nat.le_trans hS.1 h)) (fun v61 H locs hp61 hz9 hk9 hS => ?_)
          have hE9 := Ext.of hz9 hk9 (fun q h => h)
          have hw := hw.ext hE9
          have Ab := Ab.ext hE9
          have hst := hst.ext hE9
          subst hp61
          have hX := hX.trans hE9
          have ht := ht.ext hE9
          have hix : ixo (sl tx a E) 58 = if K < E then ((K - a : Nat) : Int) else -1 := by rw [ixo_sl ⟨hEr.1, hEr.2⟩, hKE0]
          obtain ⟨Z, hZ⟩ : ∃ Z, Z = ixo (sl tx a E) 58 := ⟨_, rfl⟩
          rw [← hZ] at hix ⊢
          have hx1 := hx0.ext hX
          have hZr : (K < E ∧ Z = ((K - a : Nat) : Int)) ∨ (¬ K < E ∧ Z = -1) := by rw [hix]; split <;> omega
          refine lv_istore (lv' := [(6, .int (iI Z)), (5, .ref t), (0, .ref x), (1, .ref h), (2, .int (iI ↑a)), (3, .ref w), (4, .int (iI ↑j))]) hx hb dX1_line_64 hl (by decide) rfl (fun ls hl => ?_)
          have l103 : ∀ (fuel : Nat) (z : Int), 0 < fuel → (z = b2i (okl tx a)) → ∀ (H : Heap) (locs : List Loc) (ls : Array Slot) (k n : Nat), va_S (fun q => H0.size ≤ q ∨ HM G L ed rs q ∨ q = x) H0 H locs → (Ext H0 H) → (St G (Pur H0) H t (sl tx a E)) → (k + (E - a) + 17 ≤ mc) → (n + 6 * (E - a) + 220 + 4 * tx.length + G1 ≤ ms) → lv_has ls 8 [(0, .ref x), (1, .ref h), (2, .int (iI ↑a)), (3, .ref w), (4, .int (iI ↑j)), (5, .ref t), (6, .int (iI Z))] → W p l e ⟨17, mc, ms, 384⟩ s m args below meth c H locs k n Q (F0 m 103 ls [.int (iI z)]) := by
            intro fuel
            induction fuel with
            | zero => intro z hf9; exact absurd hf9 (Nat.not_lt_zero _)
            | succ fuel ih_l103 =>
              intro z hf9 hz H locs ls k n hS hX ht hr1 hr2 hl
              subst hz
              have hor := b2i_rg (okl tx a)
              have hx1 := hx0.ext hX
              obtain ⟨-, -, -, bt, -, hst, -⟩ := id ht
              refine lv_istore (lv' := [(7, .int (iI (b2i (okl tx a)))), (0, .ref x), (1, .ref h), (2, .int (iI ↑a)), (3, .ref w), (4, .int (iI ↑j)), (5, .ref t), (6, .int (iI Z))]) hx hb dX1_line_103 hl (by decide) rfl (fun ls hl => ?_)
              refine lv_iload hx hb dX1_line_105 (lv_at hl 0 rfl) ?_
              refine z_if_eq cx (tgt := 140) dX1_line_107 (by decide) (by omega) (fun c107 => ?_) (fun c107 => ?_)
              · have hof : okl tx a = false := b2i_1.mp c107
                have hlT : lnT tx a T = T := by rw [lnT, hof]; rfl
                have hlr := hN0.1
                have hle := hed0.le
                have hh1 := hh0.ext hX
                have hL1 := hL0.ext hX
                have hed1 := hed0.ext hX
                have hN1 := hN0.ext hX
                refine lv_aload_n hx hb dX1_line_140 rfl (lv_at hl 1 rfl) ?_
                refine lv_iload_n hx hb dX1_line_141 rfl (lv_at hl 3 rfl) ?_
                refine z_put cx (k0 := 5) (vs' := [.ref tp, .ref th, .ref rq, .ref wi, .int (iI ↑tx.length), .int (iI ↑a), .int (iI ti), .int (iI us)]) hx1 (Or.inr (Or.inr rfl)) hS rfl in_X1 tyX1_ok nmX1 (by decide) q677 rfl rfl  rfl (Nat.le_of_ble_eq_true rfl) ⟨rfl, rfl⟩ dX1_line_142 (fun H locs hx1 hz9 hq9 hS => ?_)
                refine lv_iload hx hb dX1_line_145 (lv_at hl 5 rfl) ?_
                refine lv_iconst (v := iI (1)) hx hb dX1_line_147 rfl ?_
                refine z_iadd cx (z := ((E + 1 : Nat) : Int)) dX1_line_148 (by omega) ?_
                exact z_iret cx hQ rfl rfl (⟨by rw [hE], ed, rs, cs, mz, by rw [hof]; exact hx1, hh1.kept (hq9 h hxh.symm), hL1.kept (hq9 L hxL.symm), by rw [hlT, if_neg (by omega)]; exact hed1.kept (fun hl hb => hq9 ed (fun z => hxM (Or.inr (Or.inl ⟨z ▸ hb, z.symm⟩)))), by rw [hlT]; exact hN1.kp (fun q h1 h2 => ⟨h2, hq9 q (fun z => hPx q h2.1 z)⟩) (fun r hr => hq9 r (fun z => hxM (Or.inr (Or.inr (z ▸ hr))))), hnd, Or.inl rfl, fun r hr => Or.inl hr⟩) hS (by omega) dX1_line_149
              · have hot : okl tx a = true := by cases h : okl tx a with | true => rfl | false => rw [h] at c107; exact absurd b2i_f c107
                have hkk := hot
                rw [hokl, Bool.and_eq_true] at hkk
                have hkk1 := of_decide_eq_true hkk.1
                have hZk : Z = ((K - a : Nat) : Int) := by rcases hZr with z | z; exact z.2; omega
                rw [hZk] at hl
                have e9 : sl (sl tx a E) 0 (K - a) = sl tx a K := by rw [sl_sl ⟨by omega, hEr.2⟩, Nat.add_zero, show a + (K - a) = K by omega]
                have e8 : sl (sl tx a E) (K - a + 1) (sl tx a E).length = sl tx (K + 1) E := by rw [hsl, sl_sl ⟨by omega, hEr.2⟩, show a + (K - a + 1) = K + 1 by omega, show a + (E - a) = E by omega]
                have hlK : (sl tx a K).length = K - a := sl_len (by omega)
                have hlV : (sl tx (K + 1) E).length = E - (K + 1) := sl_len (by omega)
                have hvl := trim_len (sl tx (K + 1) E)
                have hgs1 := hS.1
                refine lv_aload_n hx hb dX1_line_110 rfl (lv_at hl 2 rfl) ?_
                refine lv_aload hx hb dX1_line_111 (lv_at hl 6 rfl) ?_
                refine lv_iconst (v := iI (0)) hx hb dX1_line_113 rfl ?_
                refine lv_iload hx hb dX1_line_114 (lv_at hl 7 rfl) ?_
                refine z_callV cx (j := 2) (m_J5_substring G l _ _ t 0 (K - a) (sl tx a E) (hB.ofS hS hBA) ht ⟨Nat.zero_le _, by omega⟩ (mc := 2) (ms := K - a - 0 + 4) (Nat.le_refl _) (Nat.le_refl _)) (lw_V q471 q472 q473 q40 q474) (zrecvS cx hst) (by decide +kernel) rfl (rest := [.ref h]) rfl hl (Nat.le_of_ble_eq_true rfl) (by decide) (by omega) dX1_line_116 hS (fun q h => Or.inl (Nat.le_trans hS.1 h)) (fun v116 H locs hp116 hz9 hk9 hS => ?_)
                have hE9 := Ext.of hz9 hk9 (fun q h => h)
                obtain ⟨u, rfl, hu⟩ := hp116
                have hst := hst.ext hE9
                have hX := hX.trans hE9
                have ht := ht.ext hE9
                have hgs2 := hS.1
                rw [e9] at hu
                refine z_callS cx (j := 1) (m_X1_small G l _ _ u (sl tx a K) (hB.ofS hS hBA) hu (by omega) (mc := K - a + 4) (ms := 5 * (K - a) + 60) (by omega) (by omega)) (lw_S q741 q123 q32 q124) (by decide +kernel) rfl (rest := [.ref h]) rfl hl (Nat.le_of_ble_eq_true rfl) (by decide) (by omega) dX1_line_119 hS (fun q h => Or.inl (Nat.le_trans hS.1 h)) (fun v119 H locs hp119 hz9 hk9 hS => ?_)
                have hE9 := Ext.of hz9 hk9 (fun q h => h)
                obtain ⟨sm, rfl, hsm⟩ := hp119
                have hst := hst.ext hE9
                have hX := hX.trans hE9
                have ht := ht.ext hE9
                have hsm := hsm.kp (P' := HQ G P L ed rs) (Kp.weak (fun q _ z => toQ q (Or.inl (Nat.le_trans hgs2 z))))
                have hgs3 := hS.1
                refine lv_aload hx hb dX1_line_122 (lv_at hl 6 rfl) ?_
                refine lv_iload hx hb dX1_line_124 (lv_at hl 7 rfl) ?_
                refine lv_iconst (v := iI (1)) hx hb dX1_line_126 rfl ?_
                refine z_iadd cx (z := ((K - a + 1 : Nat) : Int)) dX1_line_127 (by omega) ?_
                refine z_callV cx (j := 1) (m_J5_substring_2 G l _ _ t (K - a + 1) (sl tx a E) (hB.ofS hS hBA) ht (by omega) (mc := 2) (ms := (sl tx a E).length - (K - a + 1) + 4) (Nat.le_refl _) (Nat.le_refl _)) (lw_V q742 q613 q614 q40 q615) (zrecvS cx hst) (by decide +kernel) rfl (rest := [.ref sm, .ref h]) rfl hl (Nat.le_of_ble_eq_true rfl) (by decide) (by omega) dX1_line_128 hS (fun q h => Or.inl (Nat.le_trans hS.1 h)) (fun v128 H locs hp128 hz9 hk9 hS => ?_)
                have hE9 := Ext.of hz9 hk9 (fun q h => h)
                obtain ⟨u2, rfl, hu2⟩ := hp128
                have hst := hst.ext hE9
                have hX := hX.trans hE9
                have hsm := hsm.ext hE9
                have hgs4 := hS.1
                rw [e8] at hu2
                refine z_callS cx (j := 1) (m_X1_trimmed G l _ _ u2 (sl tx (K + 1) E) (hB.ofS hS hBA) hu2 (mc := 2) (ms := (sl tx (K + 1) E).length + 4) (Nat.le_refl _) (Nat.le_refl _)) (lw_S q495 q496 q32 q497) (by decide +kernel) rfl (rest := [.ref sm, .ref h]) rfl hl (Nat.le_of_ble_eq_true rfl) (by decide) (by omega) dX1_line_131 hS (fun q h => Or.inl (Nat.le_trans hS.1 h)) (fun v131 H locs hp131 hz9 hk9 hS => ?_)
                have hE9 := Ext.of hz9 hk9 (fun q h => h)
                obtain ⟨tv, rfl, htv⟩ := hp131
                have hst := hst.ext hE9
                have hX := hX.trans hE9
                have hsm := hsm.ext hE9
                have htv := htv.kp (P' := HQ G P L ed rs) (Kp.weak (fun q _ z => toQ q (by
                  rcases z with (z | z | z) | z | z
                  · exact Or.inl z
                  · exact Or.inl (Nat.le_trans hgs3 z)
                  · exact Or.inr z
                  · exact Or.inl (Nat.le_trans hgs4 z)
                  · exact Or.inr z)))
                have hlT : lnT tx a T = addL T ((sl tx a K).map smI) (trim (sl tx (K + 1) E)) := by rw [lnT, if_pos hot, ← hK, ← hE]; rfl
                have hh1 := hh0.ext hX
                have hL1 := hL0.ext hX
                have hed1 := hed0.ext hX
                have hN1 := hN0.ext hX
                have hx1 := hx0.ext hX
                have hgs5 := hS.1
                have hoL := hn.2.2.2 ((sl tx a K).map smI)
                rw [hlT] at hG1
                refine z_callVv cx (j := 2) (m_X2_add G l _ P h L ed cap sm tv mz rs T cs ((sl tx a K).map smI) (trim (sl tx (K + 1) E)) (hB.ofS hS hBA) ⟨hbd.2.1, hbd.2.2⟩ hrb hnd hh1 hL1 hed1 hN1 (fun q z => hPn q (Or.inl (Nat.le_trans hgs5 z))) hsm htv ⟨by omega, by omega, by omega, fun t ht => by have := hn.2.2.1 t ht; omega⟩ (mc := 5) (ms := 4 * oL (hdV T ((sl tx a K).map smI)) + 2 * (trim (sl tx (K + 1) E)).length + 80 + G1) (Nat.le_refl _) (by rw [hG1]; exact Nat.le_refl _)) (lw_V q743 q744 q745 q36 q746) (zrecv cx hh1 rfl) (by decide +kernel) rfl (rest := []) rfl hl (Nat.le_of_ble_eq_true rfl) (by decide) (by omega) dX1_line_134 hS (fun q h => by rcases h with h | h; exact Or.inl (Nat.le_trans hS.1 h); exact Or.inr (Or.inl h)) (fun H locs hp134 hz9 hk9 hS => ?_)
                obtain ⟨d, rs', cs', mz', hh, hL, hed, hN, hnd', hdd, hrr⟩ := hp134
                have hx1 := hx1.kept (hk9 x hx1.lt (by rintro (z | z); have := hx1.lt; omega; exact hxM z))
                refine lv_goto (tgt := 145) hx hb dX1_line_137 (by decide) ?_
                refine lv_iload hx hb dX1_line_145 (lv_at hl 5 rfl) ?_
                refine lv_iconst (v := iI (1)) hx hb dX1_line_147 rfl ?_
                refine z_iadd cx (z := ((E + 1 : Nat) : Int)) dX1_line_148 (by omega) ?_
                exact z_iret cx hQ rfl rfl (⟨by rw [hE], d, rs', cs', mz', by rw [if_pos hot]; exact hx1, hh, hL, by rw [hlT]; exact hed, by rw [hlT]; exact hN, hnd', by rcases hdd with z | z; exact Or.inl z; exact Or.inr (Nat.le_trans hgs5 z), fun r hr => (hrr r hr).imp id (Nat.le_trans hgs5)⟩) hS (by omega) dX1_line_149
          have hXr : -1 ≤ Z ∧ Z ≤ 300 := by rcases hZr with z | z <;> omega
          refine lv_iload hx hb dX1_line_66 (lv_at hl 6 rfl) ?_
          refine lv_aload_n hx hb dX1_line_68 rfl (lv_at hl 2 rfl) ?_
          refine z_get cx (k0 := 4) hx1 rfl in_X1 (by decide) q676 rfl rfl dX1_line_69 ?_
          refine z_icmp_ge cx (tgt := 102) dX1_line_72 (by decide) (by omega) (fun c72 => ?_) (fun c72 => ?_)
          · have hof : okl tx a = false := by rw [hokl, decide_eq_false (by omega)]; rfl
            refine lv_iconst (v := iI (0)) hx hb dX1_line_102 rfl ?_
            exact l103 _ 0 (Nat.lt_succ_self _) (by rw [hof]; rfl) _ _ _ _ _ hS hX ht (by omega) (by omega) (lv_sub hl [2, 3, 4, 5, 6, 1, 0] rfl)
          · refine lv_iload hx hb dX1_line_75 (lv_at hl 0 rfl) ?_
            refine z_if_lt cx (tgt := 102) dX1_line_77 (by decide) (by omega) (fun c77 => ?_) (fun c77 => ?_)
            · have hof : okl tx a = false := by rw [hokl, decide_eq_false (by omega)]; rfl
              refine lv_iconst (v := iI (0)) hx hb dX1_line_102 rfl ?_
              exact l103 _ 0 (Nat.lt_succ_self _) (by rw [hof]; rfl) _ _ _ _ _ hS hX ht (by omega) (by omega) (lv_sub hl [2, 3, 4, 5, 6, 1, 0] rfl)
            · have hKE : K < E := by rcases hZr with z | z; exact z.1; omega
              have hZk : Z = ((K - a : Nat) : Int) := by rcases hZr with z | z; exact z.2; omega
              have hgs9 := hS.1
              have e9 : sl (sl tx a E) 0 (K - a) = sl tx a K := by rw [sl_sl ⟨by omega, hEr.2⟩, Nat.add_zero, show a + (K - a) = K by omega]
              refine lv_aload hx hb dX1_line_80 (lv_at hl 1 rfl) ?_
              refine lv_iconst (v := iI (0)) hx hb dX1_line_82 rfl ?_
              refine lv_iconst (v := iI (0)) hx hb dX1_line_83 rfl ?_
              refine lv_iload hx hb dX1_line_84 (lv_at hl 0 rfl) ?_
              refine z_mmax cx (z := ((K - a : Nat) : Int)) (rest := [.int (iI 0), .ref t]) q739 ⟨by omega, by omega⟩ (by omega) hl (Nat.le_of_ble_eq_true rfl) (by decide) (by omega) dX1_line_86 ?_
              refine z_callV cx (j := 2) (m_J5_substring G l _ _ t 0 (K - a) (sl tx a E) (hB.ofS hS hBA) ht ⟨Nat.zero_le _, by omega⟩ (mc := 2) (ms := K - a - 0 + 4) (Nat.le_refl _) (Nat.le_refl _)) (lw_V q471 q472 q473 q40 q474) (zrecvS cx hst) (by decide +kernel) rfl (rest := []) rfl hl (Nat.le_of_ble_eq_true rfl) (by decide) (by omega) dX1_line_89 hS (fun q h => Or.inl (Nat.le_trans hS.1 h)) (fun v89 H locs hp89 hz9 hk9 hS => ?_)
              have hE9 := Ext.of hz9 hk9 (fun q h => h)
              obtain ⟨u, rfl, hu⟩ := hp89
              have hw := hw.ext hE9
              have Ab := Ab.ext hE9
              have hst := hst.ext hE9
              have hx1 := hx1.ext hE9
              have hX := hX.trans hE9
              have ht := ht.ext hE9
              rw [e9] at hu
              refine z_callS cx (j := 1) (m_X1_isName G l _ _ u (sl tx a K) (hB.ofS hS hBA) hu (mc := 0) (ms := 0)) (lw_S q740 q621 q32 q622) (by decide +kernel) rfl (rest := []) rfl hl (Nat.le_of_ble_eq_true rfl) (by decide) (by omega) dX1_line_92 hS (fun q h => Or.inl (Nat.le_trans hS.1 h)) (fun v92 H locs hp92 hz9 hk9 hS => ?_)
              have hE9 := Ext.of hz9 hk9 (fun q h => h)
              have hw := hw.ext hE9
              have Ab := Ab.ext hE9
              have hst := hst.ext hE9
              have hx1 := hx1.ext hE9
              have hb92 := b2i_rg (isNm (sl tx a K))
              subst hp92
              have hX := hX.trans hE9
              have ht := ht.ext hE9
              have hok2 : okl tx a = isNm (sl tx a K) := by rw [hokl, decide_eq_true ⟨by omega, hKE⟩]; rfl
              refine z_if_eq cx (tgt := 102) dX1_line_95 (by decide) (by omega) (fun c95 => ?_) (fun c95 => ?_)
              · refine lv_iconst (v := iI (0)) hx hb dX1_line_102 rfl ?_
                exact l103 _ 0 (Nat.lt_succ_self _) (by rw [hok2, b2i_1.mp c95]; rfl) _ _ _ _ _ hS hX ht (by omega) (by omega) (lv_sub hl [2, 3, 4, 5, 6, 1, 0] rfl)
              · refine lv_iconst (v := iI (1)) hx hb dX1_line_98 rfl ?_
                refine lv_goto (tgt := 103) hx hb dX1_line_99 (by decide) ?_
                exact l103 _ 1 (Nat.lt_succ_self _) (by rw [hok2]; cases h : isNm (sl tx a K) with | true => rfl | false => rw [h] at c95; exact absurd b2i_f c95) _ _ _ _ _ hS hX ht (by omega) (by omega) (lv_sub hl [2, 3, 4, 5, 6, 1, 0] rfl)
      refine lv_iload hx hb dX1_line_11 (lv_at hl 4 rfl) ?_
      refine lv_aload_n hx hb dX1_line_13 rfl (lv_at hl 0 rfl) ?_
      refine z_get cx (k0 := 4) hx1 rfl in_X1 (by decide) q676 rfl rfl dX1_line_14 ?_
      refine z_icmp_ge cx (tgt := 51) dX1_line_17 (by decide) (by omega) (fun c17 => ?_) (fun c17 => ?_)
      · exact l51 _  (Nat.lt_succ_self _) (by omega) _ _ _ _ _ hS hw Ab hX (by omega) (by omega) (lv_sub hl [0, 1, 2, 3, 4] rfl)
      · refine lv_aload_n hx hb dX1_line_20 rfl (lv_at hl 0 rfl) ?_
        refine z_get cx (k0 := 0) hx1 rfl in_X1 (by decide) q672 rfl rfl dX1_line_21 ?_
        refine lv_iload hx hb dX1_line_24 (lv_at hl 4 rfl) ?_
        refine z_bald cx ht1 (j) (by omega) dX1_line_26 (fun x26 hx26 => ?_)
        have bx26 := hcall _ (List.mem_of_getElem? hx26)
        have hbx : chs tx := htc.1
        have hxx : tx[j]? = some x26 := by rw [List.getElem?_append_left (by omega)] at hx26; exact hx26
        refine lv_bipush (v := iI (10)) hx hb dX1_line_27 (by decide) ?_
        refine z_icmp_eq cx (tgt := 51) dX1_line_29 (by decide) (by omega) (fun c29 => ?_) (fun c29 => ?_)
        · subst c29
          have hjE : j = E := by rw [hE]; exact (nxt_of ⟨hj.1, by omega, Nat.le_refl _⟩ hno (Or.inr hxx)).symm
          exact l51 _  (Nat.lt_succ_self _) hjE _ _ _ _ _ hS hw Ab hX (by omega) (by omega) (lv_sub hl [0, 1, 2, 3, 4] rfl)
        · have hjE : j < E := by
            rcases Nat.lt_or_ge j E with z | z
            · exact z
            · have : j = E := by omega
              rcases hEo with u | u
              · omega
              · rw [← this, hxx] at u; cases u; exact absurd rfl c29
          refine lv_aload_n hx hb dX1_line_32 rfl (lv_at hl 3 rfl) ?_
          refine lv_aload_n hx hb dX1_line_33 rfl (lv_at hl 0 rfl) ?_
          refine z_get cx (k0 := 0) hx1 rfl in_X1 (by decide) q672 rfl rfl dX1_line_34 ?_
          refine lv_iload hx hb dX1_line_37 (lv_at hl 4 rfl) ?_
          refine z_bald cx ht1 (j) (by omega) dX1_line_39 (fun y26 hy26 => ?_)
          have by26 := hcall _ (List.mem_of_getElem? hy26)
          refine lv_i2c (v := iI y26) hx hb dX1_line_40 (iI_c (by omega)) ?_
          have hyy : y26 = x26 := by rw [List.getElem?_append_left (by omega), hxx] at hy26; exact (Option.some.inj hy26).symm
          have hcr := htc.1 y26 (by rw [hyy]; exact List.mem_of_getElem? hxx)
          have hif1 : (r = 0 ∧ (if r = 0 then 1 else 0) = 1) ∨ (¬ r = 0 ∧ (if r = 0 then 1 else 0) = 0) := by split <;> omega
          have hif2 : (r = 0 ∧ (if r = 0 then 2 * Y.length + 2 else 0) = 2 * Y.length + 2) ∨ (¬ r = 0 ∧ (if r = 0 then 2 * Y.length + 2 else 0) = 0) := by split <;> omega
          have hif3 : (r = 0 ∧ (if r = 0 then Y.length + 1 else r - 1) = Y.length + 1) ∨ (¬ r = 0 ∧ (if r = 0 then Y.length + 1 else r - 1) = r - 1) := by split <;> omega
          have hwl : H0.size ≤ w := hw0
          have hgs9 := hS.1
          refine z_callV cx (j := 1) (m_J4_append G l _ w b r Y (.int (iI 0)) y26 (hB.ofS hS hBA) ⟨by omega, by omega⟩ hw Ab hcY hcr (by omega) (mc := if r = 0 then 1 else 0) (ms := if r = 0 then 2 * Y.length + 2 else 0) (Nat.le_refl _) (Nat.le_refl _)) (lw_V q203 q204 q205 q39 q206) (zrecv cx hw rfl) (by decide +kernel) rfl (rest := []) rfl hl (Nat.le_of_ble_eq_true rfl) (by decide) (by omega) dX1_line_41 hS (fun q h => by rcases h with h | h | h; exact Or.inl (Nat.le_trans hS.1 h); exact Or.inl (h ▸ hwl); exact Or.inl (h ▸ hgb)) (fun v41 H locs hp41 hz9 hk9 hS => ?_)
          obtain ⟨rfl, d, hd, hw, Ab⟩ := hp41
          have hX : Ext H0 H := ⟨hS.1, fun q hq => (hk9 q (by omega) (by rintro (z | z | z) <;> omega)).trans (hX.2 q hq)⟩
          have e2 : Y.length + 1 = (Y ++ [y26]).length := by rw [List.length_append, List.length_singleton]
          rw [e2] at hw
          refine lv_pop hx hb dX1_line_44 rfl ?_
          refine z_iinc cx (j := 4) (z := ((j + 1 : Nat) : Int)) (lv' := [(4, .int (iI ((j + 1 : Nat) : Int))), (0, .ref x), (1, .ref h), (2, .int (iI ↑a)), (3, .ref w)]) dX1_line_45 hl rfl (by omega) (by decide) rfl (fun ls hl => ?_)
          refine lv_goto (tgt := 11) hx hb dX1_line_48 (by decide) ?_
          exact ih_lp (j + 1) d (if r = 0 then Y.length + 1 else r - 1) (Y ++ [y26]) (by omega) (by omega) (by rw [hY, hyy, sl_snoc hxx hj.1]) (fun c hc => by rw [sl_snoc hxx hj.1] at hc; rcases List.mem_append.mp hc with z | z; exact hno c z; rw [List.mem_singleton.mp z]; exact c29) (by rcases hd with e | e; omega; omega) (by rw [← e2]; omega) _ _ _ _ _ hS hw Ab hX (by omega) (by rw [← e2]; omega) (lv_sub hl [1, 2, 3, 4, 0] rfl)
  exact lp _ a d 16 [] (Nat.lt_succ_self _) (by omega) (by rw [sl_nil (Nat.le_refl a)]) (fun c hc => by rw [sl_nil (Nat.le_refl a)] at hc; cases hc) (by omega) (by rw [List.length_nil]; omega) _ _ _ _ _ hS hw Ad hX (by omega) (by rw [List.length_nil]; omega) (lv_sub hl [2, 3, 4, 1, 0] rfl)
