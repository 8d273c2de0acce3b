/-! ===== the component: Control ===== -/
set_option maxHeartbeats 4000000 in
set_option maxRecDepth 100000 in
theorem m_X3_find (G : zE) (l : Launch) (H0 : Heap) (P P' : Nat → Prop) (co nl ed cap y : Nat) (u0 u1 : Value) (rs : List Nat) (kv : KV) (ys : List Int) (hB : Bh G H0) (hc : Ob G H0 co 2 [.ref nl, u1]) (h : Ob G H0 nl 8 [u0, .ref ed, .int (iI (rs.length : Int))]) (h2 : EDok G H0 ed rs cap) (hN : NB G P H0 rs (kv.map (fun q => q.1))) (hn : kv.length ≤ 30000) (hy : St G P' H0 y ys) {mc ms : Nat}  : zR G l yX3_find (ws_ yX3_find cX3_find 3 (some FieldType.int)) 3 64 mc ms [.ref co, .ref y] H0 (fun r _ => r = .int (iI (ctF kv ys))) (Pur H0) := by
  refine zR.start (cc := cX3_find) (by decide) (Nat.le_of_ble_eq_true rfl) ?_
  intro p e s m args below meth c Q cx hQ hmn ls hl
  have hx := cx.1
  have hb := cx.2.1
  have hS : va_S (Pur H0) H0 H0 [] := va_S.rf
  have hl : lv_has ls 3 [(0, .ref co), (1, .ref y)] := hl
  have hlen : rs.length = kv.length := by rw [hN.1, List.length_map]
  refine lv_iconst (v := iI (0)) hx hb dX3_find_0 rfl ?_
  refine lv_istore_n (lv' := [(2, .int (iI 0)), (0, .ref co), (1, .ref y)]) hx hb dX3_find_1 rfl hl (by decide) rfl (fun ls hl => ?_)
  have lp : ∀ (fuel : Nat) (j : Nat), (rs.length - j) < fuel → (j ≤ rs.length) → (ctF kv ys = fix1 (fun q => decide (q.1 = ys)) (kv.drop j) j) → ∀ (H : Heap) (locs : List Loc) (ls : Array Slot) (k n : Nat), va_S (Pur H0) H0 H locs → (k ≤ mc) → (n ≤ ms) → lv_has ls 3 [(0, .ref co), (1, .ref y), (2, .int (iI ↑j))] → W p l e ⟨3, mc, ms, 64⟩ s m args below meth c H locs k n Q (F0 m 2 ls []) := by
    intro fuel
    induction fuel with
    | zero => intro j hf9; exact absurd hf9 (Nat.not_lt_zero _)
    | succ fuel ih_lp =>
      intro j hf9 hj he H locs ls k n hS  hr1 hr2 hl
      refine lv_iload_n hx hb dX3_find_2 rfl (lv_at hl 2 rfl) ?_
      refine lv_aload_n hx hb dX3_find_3 rfl (lv_at hl 0 rfl) ?_
      refine z_get cx (k0 := 0) (hc.ext (Ext.ofS hS)) rfl in_X3 (by decide) q665 rfl rfl dX3_find_4 ?_
      refine z_callV cx (j := 0) (m_J2_size G l _ nl (rs.length : Int) u0 (.ref ed) (h.ext (Ext.ofS hS)) (mc := 0) (ms := 0)) (lw_V q545 q546 q547 q35 q548) (zrecv cx (h.ext (Ext.ofS hS)) rfl) (by decide +kernel) rfl (rest := [.int (iI ↑j)]) rfl hl (Nat.le_of_ble_eq_true rfl) (by decide) (by omega) dX3_find_7 hS (fun q h => Nat.le_trans hS.1 h) (fun v7 H locs hp7 hz9 hk9 hS => ?_)
      have hE9 := Ext.of hz9 hk9 (fun q h => h)
      subst hp7
      refine z_icmp_ge cx (tgt := 39) dX3_find_10 (by decide) (by omega) (fun c10 => ?_) (fun c10 => ?_)
      · rw [List.drop_eq_nil_of_le (show kv.length ≤ j by omega)] at he
        refine lv_iconst (v := iI (-1)) hx hb dX3_find_39 rfl ?_
        exact z_iret cx hQ rfl rfl (by rw [he]; rfl) hS (by omega) dX3_find_40
      · obtain ⟨q9, hq9⟩ : ∃ q, kv[j]? = some q := ⟨_, List.getElem?_eq_getElem (by omega)⟩
        obtain ⟨w9, hw9⟩ : ∃ w, rs[j]? = some w := ⟨_, List.getElem?_eq_getElem (by omega)⟩
        have hst9 := hN.2 j w9 q9.1 hw9 (by rw [List.getElem?_map, hq9]; rfl)
        have hst8 := hst9
        obtain ⟨-, -, -, b9, -, hs9, -⟩ := hst8
        have hgd : rs.getD j 0 = w9 := by rw [List.getD_eq_getElem?_getD, hw9]; rfl
        rw [drop_s hq9, fix1] at he
        refine lv_aload_n hx hb dX3_find_13 rfl (lv_at hl 0 rfl) ?_
        refine z_get cx (k0 := 0) (hc.ext (Ext.ofS hS)) rfl in_X3 (by decide) q665 rfl rfl dX3_find_14 ?_
        refine lv_iload_n hx hb dX3_find_17 rfl (lv_at hl 2 rfl) ?_
        refine z_callV cx (j := 1) (m_J2_get G l _ nl ed j cap rs u0 (h.ext (Ext.ofS hS)) (h2.ext (Ext.ofS hS)) ⟨by omega, by omega⟩ (mc := 0) (ms := 0)) (lw_V q549 q550 q551 q35 q552) (zrecv cx (h.ext (Ext.ofS hS)) rfl) (by decide +kernel) rfl (rest := []) rfl hl (Nat.le_of_ble_eq_true rfl) (by decide) (by omega) dX3_find_18 hS (fun q h => Nat.le_trans hS.1 h) (fun v18 H locs hp18 hz9 hk9 hS => ?_)
        have hE9 := Ext.of hz9 hk9 (fun q h => h)
        subst hp18
        rw [hgd]
        refine va_castE hx hb cx.wn (cx.ts _ q561) (zrecvS cx (hs9.ext (Ext.ofS hS))) dX3_find_21 ?_
        refine lv_aload_n hx hb dX3_find_24 rfl (lv_at hl 1 rfl) ?_
        refine z_callV cx (j := 1) (m_J5_equals G l _ P P' w9 y q9.1 ys (hB.ext (Ext.ofS hS)) (hst9.ext (Ext.ofS hS)) (hy.ext (Ext.ofS hS)) (mc := 0) (ms := 0)) (lw_V q627 q628 q629 q40 q630) (zrecvS cx (hs9.ext (Ext.ofS hS))) (by decide +kernel) rfl (rest := []) rfl hl (Nat.le_of_ble_eq_true rfl) (by decide) (by omega) dX3_find_25 hS (fun q h => Nat.le_trans hS.1 h) (fun v25 H locs hp25 hz9 hk9 hS => ?_)
        have hE9 := Ext.of hz9 hk9 (fun q h => h)
        have hb25 := b2i_rg (decide (q9.1 = ys))
        subst hp25
        refine z_if_eq cx (tgt := 33) dX3_find_28 (by decide) (by omega) (fun c28 => ?_) (fun c28 => ?_)
        · have hne := b2i_F c28
          rw [if_neg (by rw [decide_eq_false hne]; exact Bool.false_ne_true)] at he
          refine z_iinc cx (j := 2) (z := ((j + 1 : Nat) : Int)) (lv' := [(2, .int (iI ((j + 1 : Nat) : Int))), (0, .ref co), (1, .ref y)]) dX3_find_33 hl rfl (by omega) (by decide) rfl (fun ls hl => ?_)
          refine lv_goto (tgt := 2) hx hb dX3_find_36 (by decide) ?_
          exact ih_lp (j + 1) (by omega) (by omega) he _ _ _ _ _ hS  (by omega) (by omega) (lv_sub hl [1, 2, 0] rfl)
        · have heq := b2i_T c28
          rw [if_pos (decide_eq_true heq)] at he
          refine lv_iload_n hx hb dX3_find_31 rfl (lv_at hl 2 rfl) ?_
          exact z_iret cx hQ rfl rfl (by rw [he]) hS (by omega) dX3_find_32
  exact lp _ 0 (Nat.lt_succ_self _) (Nat.zero_le _) (by rw [List.drop_zero]; rfl) _ _ _ _ _ hS  (by omega) (by omega) (lv_sub hl [1, 2, 0] rfl)
set_option maxHeartbeats 4000000 in
set_option maxRecDepth 100000 in
theorem m_X3_has (G : zE) (l : Launch) (H0 : Heap) (P P' : Nat → Prop) (co y : Nat) (kv : KV) (ys : List Int) (hB : Bh G H0) (hc0 : Ct G P H0 co kv) (hy : St G P' H0 y ys) {mc ms : Nat}  : zR G l yX3_has (ws_ yX3_has cX3_has 2 (some FieldType.boolean)) 4 86 mc ms [.ref co, .ref y] H0 (fun r _ => r = .int (iI (b2i (decide (ctF kv ys ≠ -1))))) (Pur H0) := by
  refine zR.start (cc := cX3_has) (by decide) (Nat.le_of_ble_eq_true rfl) ?_
  intro p e s m args below meth c Q cx hQ hmn ls hl
  have hx := cx.1
  have hb := cx.2.1
  have hS : va_S (Pur H0) H0 H0 [] := va_S.rf
  have hl : lv_has ls 2 [(0, .ref co), (1, .ref y)] := hl
  obtain ⟨-, nl, ul, hc, ⟨ed, rs, cap, mz, -, h, h2, -, hl9, hst⟩, -, hkl⟩ := hc0
  have hrg := ctF_rg kv ys hkl
  refine lv_aload_n hx hb dX3_has_0 rfl (lv_at hl 0 rfl) ?_
  refine lv_aload_n hx hb dX3_has_1 rfl (lv_at hl 1 rfl) ?_
  refine z_callV cx (j := 1) (m_X3_find G l _ P P' co nl ed cap y (.int (iI mz)) (.ref ul) rs kv ys (hB.ext (Ext.ofS hS)) (hc.ext (Ext.ofS hS)) (h.ext (Ext.ofS hS)) (h2.ext (Ext.ofS hS)) ⟨hl9.1, fun i r x g1 g2 => (hst i r x g1 g2).ext (Ext.ofS hS)⟩ hkl (hy.ext (Ext.ofS hS)) (mc := 0) (ms := 0)) (lw_V q623 q625 qs5 q37 q626) (zrecv cx hc rfl) (by decide +kernel) rfl (rest := []) rfl hl (Nat.le_of_ble_eq_true rfl) (by decide) (by omega) dX3_has_2 hS (fun q h => Nat.le_trans hS.1 h) (fun v2 H locs hp2 hz9 hk9 hS => ?_)
  have hE9 := Ext.of hz9 hk9 (fun q h => h)
  subst hp2
  refine lv_iconst (v := iI (-1)) hx hb dX3_has_5 rfl ?_
  refine z_icmp_eq cx (tgt := 13) dX3_has_6 (by decide) (by omega) (fun c6 => ?_) (fun c6 => ?_)
  · refine lv_iconst (v := iI (0)) hx hb dX3_has_13 rfl ?_
    exact z_iret cx hQ rfl rfl (by rw [decide_eq_false (fun z => z c6)]; rfl) hS (by omega) dX3_has_14
  · refine lv_iconst (v := iI (1)) hx hb dX3_has_9 rfl ?_
    refine lv_goto (tgt := 14) hx hb dX3_has_10 (by decide) ?_
    exact z_iret cx hQ rfl rfl (by rw [decide_eq_true c6]; rfl) hS (by omega) dX3_has_14
set_option maxHeartbeats 4000000 in
set_option maxRecDepth 100000 in
theorem m_X3_of (G : zE) (l : Launch) (H0 : Heap) (P P' : Nat → Prop) (co y : Nat) (kv : KV) (ys : List Int) (hB : Bh G H0) (hc0 : Ct G P H0 co kv) (hy : St G P' H0 y ys) {mc ms : Nat}  : zR G l yX3_of (ws_ yX3_of cX3_of 3 (some FieldType.int)) 4 86 mc ms [.ref co, .ref y] H0 (fun r _ => r = .int (iI (ctG kv ys))) (Pur H0) := by
  refine zR.start (cc := cX3_of) (by decide) (Nat.le_of_ble_eq_true rfl) ?_
  intro p e s m args below meth c Q cx hQ hmn ls hl
  have hx := cx.1
  have hb := cx.2.1
  have hS : va_S (Pur H0) H0 H0 [] := va_S.rf
  have hl : lv_has ls 3 [(0, .ref co), (1, .ref y)] := hl
  obtain ⟨-, nl, ul, hc, ⟨ed, rs, cap, mz, -, h, h2, -, hl9, hst⟩, ⟨ed2, rs2, cap2, mz2, -, g1, g2, -, g9, gU⟩, hkl⟩ := hc0
  have hrg := ctF_rg kv ys hkl
  refine lv_aload_n hx hb dX3_of_0 rfl (lv_at hl 0 rfl) ?_
  refine lv_aload_n hx hb dX3_of_1 rfl (lv_at hl 1 rfl) ?_
  refine z_callV cx (j := 1) (m_X3_find G l _ P P' co nl ed cap y (.int (iI mz)) (.ref ul) rs kv ys (hB.ext (Ext.ofS hS)) (hc.ext (Ext.ofS hS)) (h.ext (Ext.ofS hS)) (h2.ext (Ext.ofS hS)) ⟨hl9.1, fun i r x g1 g2 => (hst i r x g1 g2).ext (Ext.ofS hS)⟩ hkl (hy.ext (Ext.ofS hS)) (mc := 0) (ms := 0)) (lw_V q623 q625 qs5 q37 q626) (zrecv cx hc rfl) (by decide +kernel) rfl (rest := []) rfl hl (Nat.le_of_ble_eq_true rfl) (by decide) (by omega) dX3_of_2 hS (fun q h => Nat.le_trans hS.1 h) (fun v2 H locs hp2 hz9 hk9 hS => ?_)
  have hE9 := Ext.of hz9 hk9 (fun q h => h)
  subst hp2
  refine lv_istore_n (lv' := [(2, .int (iI (ctF kv ys))), (0, .ref co), (1, .ref y)]) hx hb dX3_of_5 rfl hl (by decide) rfl (fun ls hl => ?_)
  refine lv_iload_n hx hb dX3_of_6 rfl (lv_at hl 0 rfl) ?_
  refine lv_iconst (v := iI (-1)) hx hb dX3_of_7 rfl ?_
  refine z_icmp_ne cx (tgt := 15) dX3_of_8 (by decide) (by omega) (fun c8 => ?_) (fun c8 => ?_)
  · obtain ⟨K, t9, hK, ht9, -⟩ := (ctF_or kv ys).resolve_left (fun z => c8 z.1)
    have hkl9 := (List.getElem?_eq_some_iff.mp ht9).1
    have hlen2 : rs2.length = kv.length := by rw [gU.1, List.length_map]
    obtain ⟨w9, hw9⟩ : ∃ w, rs2[K]? = some w := ⟨_, List.getElem?_eq_getElem (by omega)⟩
    have hnu := gU.2 K w9 t9.2 hw9 (by rw [List.getElem?_map, ht9]; rfl)
    have hgd : rs2.getD K 0 = w9 := by rw [List.getD_eq_getElem?_getD, hw9]; rfl
    rw [hK] at hl
    refine lv_aload_n hx hb dX3_of_15 rfl (lv_at hl 1 rfl) ?_
    refine z_get cx (k0 := 1) (hc.ext (Ext.ofS hS)) rfl in_X3 (by decide) q666 rfl rfl dX3_of_16 ?_
    refine lv_iload_n hx hb dX3_of_19 rfl (lv_at hl 0 rfl) ?_
    refine z_callV cx (j := 1) (m_J2_get G l _ ul ed2 K cap2 rs2 (.int (iI mz2)) (g1.ext (Ext.ofS hS)) (g2.ext (Ext.ofS hS)) ⟨by omega, by omega⟩ (mc := 0) (ms := 0)) (lw_V q549 q550 q551 q35 q552) (zrecv cx (g1.ext (Ext.ofS hS)) rfl) (by decide +kernel) rfl (rest := []) rfl hl (Nat.le_of_ble_eq_true rfl) (by decide) (by omega) dX3_of_20 hS (fun q h => Nat.le_trans hS.1 h) (fun v20 H locs hp20 hz9 hk9 hS => ?_)
    have hE9 := Ext.of hz9 hk9 (fun q h => h)
    subst hp20
    rw [hgd]
    refine va_castE hx hb cx.wn (cx.ts _ q842) (zrecvN cx (hnu.ext (Ext.ofS hS))) dX3_of_23 ?_
    refine z_callV cx (j := 0) (m_J17_intValue G l _ P w9 t9.2 (hnu.ext (Ext.ofS hS)) (mc := 0) (ms := 0)) (lw_V q843 q844 q845 q53 q846) (zrecvN cx (hnu.ext (Ext.ofS hS))) (by decide +kernel) rfl (rest := []) rfl hl (Nat.le_of_ble_eq_true rfl) (by decide) (by omega) dX3_of_26 hS (fun q h => Nat.le_trans hS.1 h) (fun v26 H locs hp26 hz9 hk9 hS => ?_)
    have hE9 := Ext.of hz9 hk9 (fun q h => h)
    subst hp26
    exact z_iret cx hQ rfl rfl (by rw [ctG, if_neg c8, hK, Int.toNat_natCast, List.getD_eq_getElem?_getD, ht9]; rfl) hS (by omega) dX3_of_29
  · refine lv_iconst (v := iI (-1)) hx hb dX3_of_11 rfl ?_
    refine lv_goto (tgt := 29) hx hb dX3_of_12 (by decide) ?_
    exact z_iret cx hQ rfl rfl (by rw [ctG, if_pos c8]) hS (by omega) dX3_of_29
set_option maxHeartbeats 4000000 in
set_option maxRecDepth 100000 in
theorem m_X3_add (G : zE) (l : Launch) (H0 : Heap) (P : Nat → Prop) (co nl ul ed1 ed2 cap1 cap2 y : Nat) (m1 m2 : Int) (rs1 rs2 : List Nat) (kv : KV) (zs : List Int) (hB : Bh G H0) (hbd : G.2.heap.size ≤ co ∧ G.2.heap.size ≤ nl ∧ G.2.heap.size ≤ ul) (hne : nl ≠ ul) (hed : ed1 = ed2 → ed1 = e0 G) (hcb : CB G P H0 co nl ul ed1 ed2 cap1 cap2 m1 m2 rs1 rs2 kv) (hPn : ∀ q, (H0.size ≤ q ∨ q < G.2.heap.size) → P q) (hy : St G (QC G P nl ul ed1 ed2) H0 y zs) (hn : kv.length ≤ 20000 ∧ cap1 ≤ 40000 ∧ cap2 ≤ 40000) {mc ms : Nat} (hmc : 7 ≤ mc) (hms : 2 * zs.length + 12 + (if cap1 < (ctA kv zs).length then gr cap1 else 0) + (if cap2 < (ctA kv zs).length then gr cap2 else 0) ≤ ms) : zV G l yX3_add (ws_ yX3_add cX3_add 6 (none)) 7 191 mc ms [.ref co, .ref y] H0 (fun H1 => ∃ (d1 d2 : Nat) (m1' m2' : Int) (rs1' rs2' : List Nat), CB G P H1 co nl ul d1 d2 (if cap1 < (ctA kv zs).length then gr cap1 else cap1) (if cap2 < (ctA kv zs).length then gr cap2 else cap2) m1' m2' rs1' rs2' (ctA kv zs) ∧ (d1 = ed1 ∨ H0.size ≤ d1) ∧ (d2 = ed2 ∨ H0.size ≤ d2) ∧ (d1 = d2 → d1 = e0 G)) (fun q => H0.size ≤ q ∨ MU G nl ul ed1 ed2 q) := by
  refine zV.start (cc := cX3_add) (by decide) (Nat.le_of_ble_eq_true rfl) ?_
  intro p e s m args below meth c Q cx hQ hmn ls hl
  have hx := cx.1
  have hb := cx.2.1
  have hS : va_S (fun q => H0.size ≤ q ∨ MU G nl ul ed1 ed2 q) H0 H0 [] := va_S.rf
  have hl : lv_has ls 6 [(0, .ref co), (1, .ref y)] := hl
  obtain ⟨hc, h1, h2, h3, h4, hN, hU⟩ := hcb
  have hB9 := hB.1
  have hMB : ∀ q, MU G nl ul ed1 ed2 q → G.2.heap.size ≤ q := fun q z => by rcases z with z | z | z; omega; omega; exact z.1
  have hBA : ∀ q, (H0.size ≤ q ∨ MU G nl ul ed1 ed2 q) → G.2.heap.size ≤ q := fun q z => by rcases z with z | z; omega; exact hMB q z
  have hML : ∀ q, MU G nl ul ed1 ed2 q → q < H0.size := fun q z => by
    rcases z with z | z | ⟨zb, z | z⟩
    · rw [z]; exact h1.lt
    · rw [z]; exact h3.lt
    · rw [z] at zb ⊢; exact h2.edlt cx.kk.1 zb
    · rw [z] at zb ⊢; exact h4.edlt cx.kk.1 zb
  have toQ : ∀ (Hc : Heap) (q : Nat), H0.size ≤ Hc.size → PN G (QC G P nl ul ed1 ed2) Hc q → QC G P nl ul ed1 ed2 q := fun Hc q hsz z => by
    rcases z with z | z | z
    · exact z
    · exact ⟨hPn q (Or.inl (by omega)), fun w => by have := hML q w; omega⟩
    · exact ⟨hPn q (Or.inr z), fun w => by have := hMB q w; omega⟩
  have hl1 : rs1.length = kv.length := by rw [hN.1, List.length_map]
  have hl2 : rs2.length = kv.length := by rw [hU.1, List.length_map]
  have hle1 := h2.le
  have hle2 := h4.le
  have hvr := ctV_rg zs
  obtain ⟨G1, hG1⟩ : ∃ G1, G1 = (if cap1 < (ctA kv zs).length then gr cap1 else 0) := ⟨_, rfl⟩
  obtain ⟨G2, hG2⟩ : ∃ G2, G2 = (if cap2 < (ctA kv zs).length then gr cap2 else 0) := ⟨_, rfl⟩
  rw [← hG1, ← hG2] at hms
  have hsame : ctA kv zs = kv → ∀ H1 : Heap, CB G P H1 co nl ul ed1 ed2 cap1 cap2 m1 m2 rs1 rs2 kv → CB G P H1 co nl ul ed1 ed2 (if cap1 < (ctA kv zs).length then gr cap1 else cap1) (if cap2 < (ctA kv zs).length then gr cap2 else cap2) m1 m2 rs1 rs2 (ctA kv zs) := fun e H1 z => by
    rw [e, if_neg (by omega), if_neg (by omega)]; exact z
  have l43 : ∀ (fuel : Nat) (nm : Nat) (v z : Int), 0 < fuel → (v = ctV zs) → ∀ (H : Heap) (locs : List Loc) (ls : Array Slot) (k n : Nat), va_S (fun q => H0.size ≤ q ∨ MU G nl ul ed1 ed2 q) H0 H locs → Ob G H co 2 [.ref nl, .ref ul] → Ob G H nl 8 [.int (iI m1), .ref ed1, .int (iI ↑rs1.length)] → Ob G H ul 8 [.int (iI m2), .ref ed2, .int (iI ↑rs2.length)] → EDok G H ed1 rs1 cap1 → EDok G H ed2 rs2 cap2 → (NB G (QC G P nl ul ed1 ed2) H rs1 (kv.map (fun q => q.1))) → (UB G (QC G P nl ul ed1 ed2) H rs2 (kv.map (fun q => q.2))) → (St G (QC G P nl ul ed1 ed2) H nm (zs.take (eqi zs))) → (k + 3 ≤ mc) → (n + 1 + G1 + G2 ≤ ms) → lv_has ls 6 [(0, .ref co), (1, .ref y), (2, .int (iI z)), (3, .ref nm), (4, .int (iI v))] → W p l e ⟨7, mc, ms, 191⟩ s m args below meth c H locs k n Q (F0 m 43 ls []) := by
    intro fuel
    induction fuel with
    | zero => intro nm v z hf9; exact absurd hf9 (Nat.not_lt_zero _)
    | succ fuel ih_l43 =>
      intro nm v z hf9 hv H locs ls k n hS hc h1 h3 h2 h4 hN hU hnm hr1 hr2 hl
      subst hv
      refine lv_aload_n hx hb dX3_add_43 rfl (lv_at hl 3 rfl) ?_
      refine z_callSN cx (j := 1) (m_X1_isName G l _ _ nm (zs.take (eqi zs)) (hB.ofS hS hBA) hnm (mc := 0) (ms := 0)) q620 (lw_meth q622) q621 q32 (by decide +kernel) rfl (rest := []) rfl hl (Nat.le_of_ble_eq_true rfl) (by decide) (by omega) dX3_add_44 hS (fun q h => Or.inl (Nat.le_trans hS.1 h)) (fun v44 H locs hp44 hz9 hk9 hS => ?_)
      have hE9 := Ext.of hz9 hk9 (fun q h => h)
      have hc := hc.ext hE9
      have h1 := h1.ext hE9
      have h3 := h3.ext hE9
      have h2 := h2.ext hE9
      have h4 := h4.ext hE9
      have hb44 := b2i_rg (isNm (zs.take (eqi zs)))
      subst hp44
      have hN := hN.kp (Kp.ext hE9)
      have hU := hU.kp (Kp.ext hE9)
      have hnm := hnm.ext hE9
      refine z_if_eq cx (tgt := 56) dX3_add_47 (by decide) (by omega) (fun c47 => ?_) (fun c47 => ?_)
      · have hg := b2i_1.mp c47
        have hA9 : ctA kv zs = kv := by rw [ctA, if_neg (fun z => by rw [hg] at z; cases z.1)]
        exact z_vret cx hQ rfl (⟨ed1, ed2, m1, m2, rs1, rs2, hsame hA9 _ ⟨hc, h1, h2, h3, h4, hN, hU⟩, Or.inl rfl, Or.inl rfl, hed⟩) hS (by omega) dX3_add_56
      · have hg : isNm (zs.take (eqi zs)) = true := by cases h : isNm (zs.take (eqi zs)) with | true => rfl | false => rw [h] at c47; exact absurd b2i_f c47
        refine lv_iload hx hb dX3_add_50 (lv_at hl 4 rfl) ?_
        refine lv_iconst (v := iI (-1)) hx hb dX3_add_52 rfl ?_
        refine z_icmp_ne cx (tgt := 57) dX3_add_53 (by decide) (by omega) (fun c53 => ?_) (fun c53 => ?_)
        · have hcf := ctF_rg kv (zs.take (eqi zs)) (by omega)
          have hA9 : ctA kv zs = ctR kv (zs.take (eqi zs)) ++ [(zs.take (eqi zs), ctV zs)] := by rw [ctA, if_pos ⟨hg, c53⟩]
          have l90 : ∀ (fuel : Nat) (z5 n1 n2 : Int) (ss1 ss2 : List Nat) (kw : KV), 0 < fuel → (ctA kv zs = kw ++ [(zs.take (eqi zs), ctV zs)]) → ∀ (H : Heap) (locs : List Loc) (ls : Array Slot) (k n : Nat), va_S (fun q => H0.size ≤ q ∨ MU G nl ul ed1 ed2 q) H0 H locs → Ob G H co 2 [.ref nl, .ref ul] → Ob G H nl 8 [.int (iI n1), .ref ed1, .int (iI ↑ss1.length)] → Ob G H ul 8 [.int (iI n2), .ref ed2, .int (iI ↑ss2.length)] → EDok G H ed1 ss1 cap1 → EDok G H ed2 ss2 cap2 → (NB G (QC G P nl ul ed1 ed2) H ss1 (kw.map (fun q => q.1))) → (UB G (QC G P nl ul ed1 ed2) H ss2 (kw.map (fun q => q.2))) → (St G (QC G P nl ul ed1 ed2) H nm (zs.take (eqi zs))) → (k + 3 ≤ mc) → (n + 1 + G1 + G2 ≤ ms) → lv_has ls 6 [(0, .ref co), (1, .ref y), (2, .int (iI z)), (3, .ref nm), (4, .int (iI (ctV zs))), (5, .int (iI z5))] → W p l e ⟨7, mc, ms, 191⟩ s m args below meth c H locs k n Q (F0 m 90 ls []) := by
            intro fuel
            induction fuel with
            | zero => intro z5 n1 n2 ss1 ss2 kw hf9; exact absurd hf9 (Nat.not_lt_zero _)
            | succ fuel ih_l90 =>
              intro z5 n1 n2 ss1 ss2 kw hf9 hk9' H locs ls k n hS hc h1 h3 h2 h4 hN hU hnm hr1 hr2 hl
              have hlA : (ctA kv zs).length = kw.length + 1 := by rw [hk9', List.length_append, List.length_singleton]
              have hm1 : ss1.length = kw.length := by rw [hN.1, List.length_map]
              have hm2 : ss2.length = kw.length := by rw [hU.1, List.length_map]
              have hle1 := h2.le
              have hle2 := h4.le
              have hgs := hS.1
              have i1 : (ss1.length = cap1) = (cap1 < (ctA kv zs).length) := propext ⟨fun h => by omega, fun h => by omega⟩
              have i2 : (ss2.length = cap2) = (cap2 < (ctA kv zs).length) := propext ⟨fun h => by omega, fun h => by omega⟩
              have ne1 : co ≠ nl := hc.cl.ne h1.cl cx.kk rfl
              have ne2 : co ≠ ul := hc.cl.ne h3.cl cx.kk rfl
              have ned2 : ed2 ≠ nl := h4.ne cx.kk h1.cl hbd.2.1 rfl
              have he0 := e0_lt cx.kk.1
              have edd : G.2.heap.size ≤ ed2 → ed2 ≠ ed1 := fun hb e => by have := hed e.symm; omega
              have edc : co ≠ ed1 := (h2.ne cx.kk hc.cl hbd.1 rfl).symm
              have edu : ul ≠ ed1 := (h2.ne cx.kk h3.cl hbd.2.2 rfl).symm
              have hc8 := hc
              have h38 := h3
              have h48 := h4
              refine lv_aload_n hx hb dX3_add_90 rfl (lv_at hl 0 rfl) ?_
              refine z_get cx (k0 := 0) hc rfl in_X3 (by decide) q665 rfl rfl dX3_add_91 ?_
              refine lv_aload_n hx hb dX3_add_94 rfl (lv_at hl 3 rfl) ?_
              refine z_callV cx (j := 1) (m_J2_add G l _ nl ed1 cap1 nm n1 ss1 (hB.ofS hS hBA) hbd.2.1 h1 h2 hN.el (El.st hnm) hn.2.1 (mc := 1) (ms := G1) (by split <;> omega) (by rw [hG1]; simp only [i1]; exact Nat.le_refl _)) (lw_V q644 q499 q500 q35 q501) (zrecv cx h1 rfl) (by decide +kernel) rfl (rest := []) rfl hl (Nat.le_of_ble_eq_true rfl) (by decide) (by omega) dX3_add_95 hS (fun q h => by rcases h with h | h | h; exact Or.inl (Nat.le_trans hS.1 h); exact Or.inr (Or.inl h); exact Or.inr (Or.inr (Or.inr ⟨h.1, Or.inl h.2⟩))) (fun v95 H locs hp95 hz9 hk9 hS => ?_)
              obtain ⟨rfl, d1, hd1, h1, h2⟩ := hp95
              have hc := hc8.kept (kq_ne hk9 hc8.lt ne1 (fun _ => edc))
              have h3 := h38.kept (kq_ne hk9 h38.lt hne.symm (fun _ => edu))
              have h4 := h48.kept (fun hl hb => kq_ne hk9 hl ned2 edd)
              have hkp := QC.kpA (P := P) (ul := ul) (ed2 := ed2) hk9 hd1
              have hN := (hN.kp hkp).snoc (hnm.kp hkp)
              have hU := hU.kp hkp
              have d1x : d1 = ed1 ∨ H0.size ≤ d1 := by rcases hd1 with e | e; exact Or.inl e.1; exact Or.inr (by omega)
              have d12 : d1 = ed2 → d1 = e0 G := fun e => by
                rcases hd1 with w | w
                · exact w.1.trans (hed (w.1.symm.trans e))
                · have := h48.edlt cx.kk.1 (by omega); omega
              have d1l : G.2.heap.size ≤ d1 → d1 < H.size := fun hb => h2.edlt cx.kk.1 hb
              simp only [i1] at h2
              have e4 : ss1.length + 1 = (ss1 ++ [nm]).length := by rw [List.length_append, List.length_singleton]
              rw [e4] at h1
              have hgs2 := hS.1
              refine lv_pop hx hb dX3_add_98 rfl ?_
              refine lv_aload_n hx hb dX3_add_99 rfl (lv_at hl 0 rfl) ?_
              refine z_get cx (k0 := 1) hc rfl in_X3 (by decide) q666 rfl rfl dX3_add_100 ?_
              refine lv_iload hx hb dX3_add_103 (lv_at hl 4 rfl) ?_
              refine z_callS cx (j := 1) (m_J17_valueOf G l _ (ctV zs) (hB.ofS hS hBA) (by omega) (mc := 1) (ms := 1) (Nat.le_refl _) (Nat.le_refl _)) (lw_S q645 q646 q53 q647) (by decide +kernel) rfl (rest := [.ref ul]) rfl hl (Nat.le_of_ble_eq_true rfl) (by decide) (by omega) dX3_add_105 hS (fun q h => Or.inl (Nat.le_trans hS.1 h)) (fun v105 H locs hp105 hz9 hk9 hS => ?_)
              have hE9 := Ext.of hz9 hk9 (fun q h => h)
              obtain ⟨w, rfl, hw⟩ := hp105
              have hc := hc.ext hE9
              have h1 := h1.ext hE9
              have h3 := h3.ext hE9
              have h2 := h2.ext hE9
              have h4 := h4.ext hE9
              have hN := hN.kp (Kp.ext hE9)
              have hU := hU.kp (Kp.ext hE9)
              have hz5 := hz9
              have hw := hw.kp (P' := QC G P nl ul d1 ed2) (Kp.weak (fun q _ z => by
                have hl9 : ∀ q, MU G nl ul d1 ed2 q → G.2.heap.size ≤ q := fun q z => by rcases z with z | z | z; omega; omega; exact z.1
                rcases z with z | z
                · refine ⟨hPn q (Or.inl (by omega)), fun u => ?_⟩
                  rcases u with u | u | ⟨ub, u | u⟩
                  · have := hML nl (Or.inl rfl); omega
                  · have := hML ul (Or.inr (Or.inl rfl)); omega
                  · have := d1l (by omega); omega
                  · have := hML ed2 (Or.inr (Or.inr ⟨by omega, Or.inr rfl⟩)); omega
                · exact ⟨hPn q (Or.inr z), fun u => by have := hl9 q u; omega⟩))
              have h18 := h1
              have h28 := h2
              have hc8 := hc
              have h48 := h4
              have ned1 : d1 ≠ ul := h2.ne cx.kk h3.cl hbd.2.2 rfl
              refine z_callV cx (j := 1) (m_J2_add G l _ ul ed2 cap2 w n2 ss2 (hB.ofS hS hBA) hbd.2.2 h3 h4 hU.el (El.nu hw) hn.2.2 (mc := 1) (ms := G2) (by split <;> omega) (by rw [hG2]; simp only [i2]; exact Nat.le_refl _)) (lw_V q644 q499 q500 q35 q501) (zrecv cx h3 rfl) (by decide +kernel) rfl (rest := []) rfl hl (Nat.le_of_ble_eq_true rfl) (by decide) (by omega) dX3_add_108 hS (fun q h => by rcases h with h | h | h; exact Or.inl (Nat.le_trans hS.1 h); exact Or.inr (Or.inr (Or.inl h)); exact Or.inr (Or.inr (Or.inr ⟨h.1, Or.inr h.2⟩))) (fun v108 H locs hp108 hz9 hk9 hS => ?_)
              obtain ⟨rfl, d2, hd2, h3, h4⟩ := hp108
              have ed2c : co ≠ ed2 := (h48.ne cx.kk hc8.cl hbd.1 rfl).symm
              have ed2n : nl ≠ ed2 := (h48.ne cx.kk h18.cl hbd.2.1 rfl).symm
              have hc := hc8.kept (kq_ne hk9 hc8.lt ne2 (fun _ => ed2c))
              have h1 := h18.kept (kq_ne hk9 h18.lt hne (fun _ => ed2n))
              have h2 := h28.kept (fun hl hb => kq_ne hk9 hl ned1 (fun hb2 e => by have := d12 e; omega))
              have hkp := QC.kpB (P := P) (nl := nl) (ed1 := d1) hk9 hd2
              have hN := hN.kp hkp
              have hU := (hU.kp hkp).snoc (hw.kp hkp)
              simp only [i2] at h4
              have e5 : ss2.length + 1 = (ss2 ++ [w]).length := by rw [List.length_append, List.length_singleton]
              rw [e5] at h3
              have hmap1 : (ctA kv zs).map (fun q => q.1) = kw.map (fun q => q.1) ++ [zs.take (eqi zs)] := by rw [hk9', List.map_append]; rfl
              have hmap2 : (ctA kv zs).map (fun q => q.2) = kw.map (fun q => q.2) ++ [ctV zs] := by rw [hk9', List.map_append]; rfl
              rw [← hmap1] at hN
              rw [← hmap2] at hU
              refine lv_pop hx hb dX3_add_111 rfl ?_
              exact z_vret cx hQ rfl (⟨d1, d2, _, _, _, _, ⟨hc, h1, h2, h3, h4, hN, hU⟩, d1x, by rcases hd2 with e | e; exact Or.inl e.1; exact Or.inr (by omega), fun e => by rcases hd2 with u | u; exact d12 (e.trans u.1); exact absurd (d1l (by omega)) (by omega)⟩) hS (by omega) dX3_add_112
          refine lv_aload_n hx hb dX3_add_57 rfl (lv_at hl 0 rfl) ?_
          refine lv_aload_n hx hb dX3_add_58 rfl (lv_at hl 3 rfl) ?_
          refine z_callV cx (j := 1) (m_X3_find G l _ _ _ co nl ed1 cap1 nm (.int (iI m1)) (.ref ul) rs1 kv (zs.take (eqi zs)) (hB.ofS hS hBA) hc h1 h2 hN (by omega) hnm (mc := 0) (ms := 0)) (lw_V q623 q625 qs5 q37 q626) (zrecv cx hc rfl) (by decide +kernel) rfl (rest := []) rfl hl (Nat.le_of_ble_eq_true rfl) (by decide) (by omega) dX3_add_59 hS (fun q h => Or.inl (Nat.le_trans hS.1 h)) (fun v59 H locs hp59 hz9 hk9 hS => ?_)
          have hE9 := Ext.of hz9 hk9 (fun q h => h)
          have hc := hc.ext hE9
          have h1 := h1.ext hE9
          have h3 := h3.ext hE9
          have h2 := h2.ext hE9
          have h4 := h4.ext hE9
          subst hp59
          have hN := hN.kp (Kp.ext hE9)
          have hU := hU.kp (Kp.ext hE9)
          have hnm := hnm.ext hE9
          refine lv_istore (lv' := [(5, .int (iI (ctF kv (zs.take (eqi zs))))), (0, .ref co), (1, .ref y), (2, .int (iI z)), (3, .ref nm), (4, .int (iI (ctV zs)))]) hx hb dX3_add_62 hl (by decide) rfl (fun ls hl => ?_)
          refine lv_iload hx hb dX3_add_64 (lv_at hl 0 rfl) ?_
          refine lv_iconst (v := iI (-1)) hx hb dX3_add_66 rfl ?_
          refine z_icmp_eq cx (tgt := 90) dX3_add_67 (by decide) (by omega) (fun c67 => ?_) (fun c67 => ?_)
          · exact l90 _ (ctF kv (zs.take (eqi zs))) m1 m2 rs1 rs2 kv (Nat.lt_succ_self _) (by rw [hA9, ctR, if_pos c67]) _ _ _ _ _ hS hc h1 h3 h2 h4 hN hU hnm (by omega) (by omega) (lv_sub hl [1, 2, 3, 4, 5, 0] rfl)
          · obtain ⟨K, t9, hK, ht9, -⟩ := (ctF_or kv (zs.take (eqi zs))).resolve_left (fun z => c67 z.1)
            have hkl9 := (List.getElem?_eq_some_iff.mp ht9).1
            have hle1 := h2.le
            have hle2 := h4.le
            rw [hK] at hl
            have hc8 := hc
            have h38 := h3
            have h48 := h4
            have ne1 : co ≠ nl := hc.cl.ne h1.cl cx.kk rfl
            have ne2 : co ≠ ul := hc.cl.ne h3.cl cx.kk rfl
            have ned2 : ed2 ≠ nl := h4.ne cx.kk h1.cl hbd.2.1 rfl
            have ned1 : ed1 ≠ ul := h2.ne cx.kk h3.cl hbd.2.2 rfl
            have he0 := e0_lt cx.kk.1
            have edd : G.2.heap.size ≤ ed2 → ed2 ≠ ed1 := fun hb e => by have := hed e.symm; omega
            have ede : G.2.heap.size ≤ ed1 → ed1 ≠ ed2 := fun hb e => by have := hed e; omega
            have edc : co ≠ ed1 := (h2.ne cx.kk hc.cl hbd.1 rfl).symm
            have edu : ul ≠ ed1 := (h2.ne cx.kk h3.cl hbd.2.2 rfl).symm
            refine lv_aload_n hx hb dX3_add_70 rfl (lv_at hl 1 rfl) ?_
            refine z_get cx (k0 := 0) hc rfl in_X3 (by decide) q665 rfl rfl dX3_add_71 ?_
            refine lv_iload hx hb dX3_add_74 (lv_at hl 0 rfl) ?_
            refine z_callV cx (j := 1) (m_J2_remove G l _ nl ed1 cap1 K m1 rs1 (hB.ofS hS hBA) hbd.2.1 h1 h2 hN.el ⟨by omega, hn.2.1⟩ (mc := 0) (ms := 0)) (lw_V q635 q636 q637 q35 q638) (zrecv cx h1 rfl) (by decide +kernel) rfl (rest := []) rfl hl (Nat.le_of_ble_eq_true rfl) (by decide) (by omega) dX3_add_76 hS (fun q h => by rcases h with h | h | h; exact Or.inl (Nat.le_trans hS.1 h); exact Or.inr (Or.inl h); exact Or.inr (Or.inr (Or.inr ⟨h.1, Or.inl h.2⟩))) (fun v76 H locs hp76 hz9 hk9 hS => ?_)
            obtain ⟨rfl, h1, h2⟩ := hp76
            have hc := hc8.kept (kq_ne hk9 hc8.lt ne1 (fun _ => edc))
            have h3 := h38.kept (kq_ne hk9 h38.lt hne.symm (fun _ => edu))
            have h4 := h48.kept (fun hl hb => kq_ne hk9 hl ned2 edd)
            have hkp := QC.kpA (P := P) (ul := ul) (ed2 := ed2) (R := True) hk9 (Or.inl ⟨rfl, trivial⟩)
            have hN := (hN.kp hkp).rm K
            have hU := hU.kp hkp
            have hnm := hnm.kp hkp
            have e4 : rs1.length - 1 = (rmi rs1 K).length := (rmi_len (by omega)).symm
            rw [e4] at h1
            have hc8 := hc
            have h18 := h1
            have h28 := h2
            have h48 := h4
            refine lv_pop hx hb dX3_add_79 rfl ?_
            refine lv_aload_n hx hb dX3_add_80 rfl (lv_at hl 1 rfl) ?_
            refine z_get cx (k0 := 1) hc rfl in_X3 (by decide) q666 rfl rfl dX3_add_81 ?_
            refine lv_iload hx hb dX3_add_84 (lv_at hl 0 rfl) ?_
            refine z_callV cx (j := 1) (m_J2_remove G l _ ul ed2 cap2 K m2 rs2 (hB.ofS hS hBA) hbd.2.2 h3 h4 hU.el ⟨by omega, hn.2.2⟩ (mc := 0) (ms := 0)) (lw_V q635 q636 q637 q35 q638) (zrecv cx h3 rfl) (by decide +kernel) rfl (rest := []) rfl hl (Nat.le_of_ble_eq_true rfl) (by decide) (by omega) dX3_add_86 hS (fun q h => by rcases h with h | h | h; exact Or.inl (Nat.le_trans hS.1 h); exact Or.inr (Or.inr (Or.inl h)); exact Or.inr (Or.inr (Or.inr ⟨h.1, Or.inr h.2⟩))) (fun v86 H locs hp86 hz9 hk9 hS => ?_)
            obtain ⟨rfl, h3, h4⟩ := hp86
            have ed2c : co ≠ ed2 := (h48.ne cx.kk hc8.cl hbd.1 rfl).symm
            have ed2n : nl ≠ ed2 := (h48.ne cx.kk h18.cl hbd.2.1 rfl).symm
            have hc := hc8.kept (kq_ne hk9 hc8.lt ne2 (fun _ => ed2c))
            have h1 := h18.kept (kq_ne hk9 h18.lt hne (fun _ => ed2n))
            have h2 := h28.kept (fun hl hb => kq_ne hk9 hl ned1 ede)
            have hkp := QC.kpB (P := P) (nl := nl) (ed1 := ed1) (R := True) hk9 (Or.inl ⟨rfl, trivial⟩)
            have hN := hN.kp hkp
            have hU := (hU.kp hkp).rm K
            have hnm := hnm.kp hkp
            have e5 : rs2.length - 1 = (rmi rs2 K).length := (rmi_len (by omega)).symm
            rw [e5] at h3
            rw [← rmi_map] at hN hU
            refine lv_pop hx hb dX3_add_89 rfl ?_
            exact l90 _ ↑K (m1 + 1) (m2 + 1) (rmi rs1 K) (rmi rs2 K) (rmi kv K) (Nat.lt_succ_self _) (by rw [hA9, ctR, if_neg c67, hK, Int.toNat_natCast]) _ _ _ _ _ hS hc h1 h3 h2 h4 hN hU hnm (by omega) (by omega) (lv_sub hl [1, 2, 3, 4, 5, 0] rfl)
        · have hA9 : ctA kv zs = kv := by rw [ctA, if_neg (fun z => z.2 c53)]
          exact z_vret cx hQ rfl (⟨ed1, ed2, m1, m2, rs1, rs2, hsame hA9 _ ⟨hc, h1, h2, h3, h4, hN, hU⟩, Or.inl rfl, Or.inl rfl, hed⟩) hS (by omega) dX3_add_56
  have hy2 := hy
  obtain ⟨-, hch, hln, b9, -, hsy, -⟩ := hy2
  have hel := eqi_le zs
  have htk : (zs.take (eqi zs)) = sl zs 0 (eqi zs) := by unfold sl; rw [List.drop_zero]
  refine lv_aload_n hx hb dX3_add_0 rfl (lv_at hl 1 rfl) ?_
  refine lv_bipush (v := iI (61)) hx hb dX3_add_1 (by decide) ?_
  refine z_callV cx (j := 1) (m_J5_indexOf G l _ _ y zs 61 hB hy (by omega) (mc := 0) (ms := 0)) (lw_V q566 q567 q568 q40 q569) (zrecvS cx hsy) (by decide +kernel) rfl (rest := []) rfl hl (Nat.le_of_ble_eq_true rfl) (by decide) (by omega) dX3_add_3 hS (fun q h => Or.inl (Nat.le_trans hS.1 h)) (fun v3 H locs hp3 hz9 hk9 hS => ?_)
  have hE9 := Ext.of hz9 hk9 (fun q h => h)
  have hc := hc.ext hE9
  have h1 := h1.ext hE9
  have h3 := h3.ext hE9
  have h2 := h2.ext hE9
  have h4 := h4.ext hE9
  have hsy := hsy.ext hE9
  subst hp3
  have hN := hN.kp (Kp.ext hE9)
  have hU := hU.kp (Kp.ext hE9)
  have hy := hy.ext hE9
  have hgs6 := hS.1
  rw [ixo_eqi]
  by_cases hE : eqi zs < zs.length
  · rw [if_pos hE]
    refine lv_istore_n (lv' := [(2, .int (iI (↑(eqi zs)))), (0, .ref co), (1, .ref y)]) hx hb dX3_add_6 rfl hl (by decide) rfl (fun ls hl => ?_)
    refine lv_iload_n hx hb dX3_add_7 rfl (lv_at hl 0 rfl) ?_
    refine z_if_ge cx (tgt := 15) dX3_add_8 (by decide) (by omega) (fun c8 => ?_) (fun c8 => (by exfalso; omega))
    refine lv_aload_n hx hb dX3_add_15 rfl (lv_at hl 2 rfl) ?_
    refine lv_iconst (v := iI (0)) hx hb dX3_add_16 rfl ?_
    refine lv_iload_n hx hb dX3_add_17 rfl (lv_at hl 0 rfl) ?_
    refine z_callV cx (j := 2) (m_J5_substring G l _ _ y 0 (eqi zs) zs (hB.ofS hS hBA) hy ⟨Nat.zero_le _, hel⟩ (mc := 2) (ms := eqi zs - 0 + 4) (Nat.le_refl _) (Nat.le_refl _)) (lw_V q611 q472 q473 q40 q474) (zrecvS cx hsy) (by decide +kernel) rfl (rest := []) rfl hl (Nat.le_of_ble_eq_true rfl) (by decide) (by omega) dX3_add_18 hS (fun q h => Or.inl (Nat.le_trans hS.1 h)) (fun v18 H locs hp18 hz9 hk9 hS => ?_)
    have hE9 := Ext.of hz9 hk9 (fun q h => h)
    obtain ⟨u, rfl, hu⟩ := hp18
    have hc := hc.ext hE9
    have h1 := h1.ext hE9
    have h3 := h3.ext hE9
    have h2 := h2.ext hE9
    have h4 := h4.ext hE9
    have hsy := hsy.ext hE9
    have hN := hN.kp (Kp.ext hE9)
    have hU := hU.kp (Kp.ext hE9)
    have hy := hy.ext hE9
    have hu := hu.kp (P' := QC G P nl ul ed1 ed2) (Kp.weak (fun q _ z => toQ _ q hgs6 z))
    have hgs18 := hS.1
    refine lv_astore_n (lv' := [(3, .ref u), (2, .int (iI (↑(eqi zs)))), (0, .ref co), (1, .ref y)]) hx hb dX3_add_21 rfl hl (by decide) rfl (fun ls hl => ?_)
    refine lv_iload_n hx hb dX3_add_22 rfl (lv_at hl 1 rfl) ?_
    refine z_if_ge cx (tgt := 31) dX3_add_23 (by decide) (by omega) (fun c23 => ?_) (fun c23 => (by exfalso; omega))
    refine lv_aload_n hx hb dX3_add_31 rfl (lv_at hl 3 rfl) ?_
    refine lv_iload_n hx hb dX3_add_32 rfl (lv_at hl 1 rfl) ?_
    refine lv_iconst (v := iI (1)) hx hb dX3_add_33 rfl ?_
    refine z_iadd cx (z := (↑(eqi zs)) + 1) dX3_add_34 (by omega) ?_
    refine z_callV cx (j := 1) (m_J5_substring_2 G l _ _ y (eqi zs + 1) zs (hB.ofS hS hBA) hy (by omega) (mc := 2) (ms := zs.length - (eqi zs + 1) + 4) (Nat.le_refl _) (Nat.le_refl _)) (lw_V q612 q613 q614 q40 q615) (zrecvS cx hsy) (by decide +kernel) rfl (rest := []) rfl hl (Nat.le_of_ble_eq_true rfl) (by decide) (by omega) dX3_add_35 hS (fun q h => Or.inl (Nat.le_trans hS.1 h)) (fun v35 H locs hp35 hz9 hk9 hS => ?_)
    have hE9 := Ext.of hz9 hk9 (fun q h => h)
    obtain ⟨w, rfl, hw⟩ := hp35
    have hc := hc.ext hE9
    have h1 := h1.ext hE9
    have h3 := h3.ext hE9
    have h2 := h2.ext hE9
    have h4 := h4.ext hE9
    have hsy := hsy.ext hE9
    have hN := hN.kp (Kp.ext hE9)
    have hU := hU.kp (Kp.ext hE9)
    have hu := hu.ext hE9
    rw [sl_to] at hw
    have hnr := numOf_rg (zs.drop (eqi zs + 1))
    refine z_callSN cx (j := 1) (m_X1_number G l _ _ w (zs.drop (eqi zs + 1)) (hB.ofS hS hBA) hw (mc := 0) (ms := 0)) q617 (lw_meth q619) q618 q32 (by decide +kernel) rfl (rest := []) rfl hl (Nat.le_of_ble_eq_true rfl) (by decide) (by omega) dX3_add_38 hS (fun q h => Or.inl (Nat.le_trans hS.1 h)) (fun v38 H locs hp38 hz9 hk9 hS => ?_)
    have hE9 := Ext.of hz9 hk9 (fun q h => h)
    have hc := hc.ext hE9
    have h1 := h1.ext hE9
    have h3 := h3.ext hE9
    have h2 := h2.ext hE9
    have h4 := h4.ext hE9
    have hsy := hsy.ext hE9
    subst hp38
    have hN := hN.kp (Kp.ext hE9)
    have hU := hU.kp (Kp.ext hE9)
    have hu := hu.ext hE9
    rw [← htk] at hu
    refine lv_istore (lv' := [(4, .int (iI (numOf (zs.drop (eqi zs + 1))))), (3, .ref u), (2, .int (iI (↑(eqi zs)))), (0, .ref co), (1, .ref y)]) hx hb dX3_add_41 hl (by decide) rfl (fun ls hl => ?_)
    exact l43 _ u (numOf (zs.drop (eqi zs + 1))) ↑(eqi zs) (Nat.lt_succ_self _) (by rw [ctV, if_neg (by omega)]) _ _ _ _ _ hS hc h1 h3 h2 h4 hN hU hu (by omega) (by omega) (lv_sub hl [3, 4, 2, 1, 0] rfl)
  · rw [if_neg hE]
    have e9 : zs.take (eqi zs) = zs := by rw [show eqi zs = zs.length by omega, List.take_length]
    refine lv_istore_n (lv' := [(2, .int (iI (-1))), (0, .ref co), (1, .ref y)]) hx hb dX3_add_6 rfl hl (by decide) rfl (fun ls hl => ?_)
    refine lv_iload_n hx hb dX3_add_7 rfl (lv_at hl 0 rfl) ?_
    refine z_if_ge cx (tgt := 15) dX3_add_8 (by decide) (by omega) (fun c8 => (by exfalso; omega)) (fun c8 => ?_)
    refine lv_aload_n hx hb dX3_add_11 rfl (lv_at hl 2 rfl) ?_
    refine lv_goto (tgt := 21) hx hb dX3_add_12 (by decide) ?_
    refine lv_astore_n (lv' := [(3, .ref y), (2, .int (iI (-1))), (0, .ref co), (1, .ref y)]) hx hb dX3_add_21 rfl hl (by decide) rfl (fun ls hl => ?_)
    refine lv_iload_n hx hb dX3_add_22 rfl (lv_at hl 1 rfl) ?_
    refine z_if_ge cx (tgt := 31) dX3_add_23 (by decide) (by omega) (fun c23 => (by exfalso; omega)) (fun c23 => ?_)
    refine lv_bipush (v := iI (-2)) hx hb dX3_add_26 (by decide) ?_
    refine lv_goto (tgt := 41) hx hb dX3_add_28 (by decide) ?_
    refine lv_istore (lv' := [(4, .int (iI (-2))), (3, .ref y), (2, .int (iI (-1))), (0, .ref co), (1, .ref y)]) hx hb dX3_add_41 hl (by decide) rfl (fun ls hl => ?_)
    exact l43 _ y (-2) (-1) (Nat.lt_succ_self _) (by rw [ctV, if_pos (by omega)]) _ _ _ _ _ hS hc h1 h3 h2 h4 hN hU (by rw [e9]; exact hy) (by omega) (by omega) (lv_sub hl [3, 4, 2, 1, 0] rfl)
